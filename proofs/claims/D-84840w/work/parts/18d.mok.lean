section RTT
variable {B : Nat} {sa : Nat → Nat} {xv : Nat → Value} {D : va_G} {cA : Nat → ClassId} {H0 : Heap} {L : Nat} {xs : Nat → Int32} {args : Array Value} {s : State}
set_option maxRecDepth 1000000 in
theorem ck_135_0 : (List.take 60 I135).all (pv_ckq RT_X7 prog_9_method_33_code (some .int)) = true := by decide +kernel
set_option maxRecDepth 1000000 in
theorem ck_135_1 : (List.take 60 (List.drop 60 I135)).all (pv_ckq RT_X7 prog_9_method_33_code (some .int)) = true := by decide +kernel
set_option maxRecDepth 1000000 in
theorem ck_135_2 : ((List.drop 60 (List.drop 60 I135))).all (pv_ckq RT_X7 prog_9_method_33_code (some .int)) = true := by decide +kernel
theorem ck_135 : I135.all (pv_ckq RT_X7 prog_9_method_33_code (some .int)) = true := (pv_allTD ck_135_0 (pv_allTD ck_135_1 ck_135_2))
theorem mok_135 (hS : pv_ST B sa xv H0 args s) (hX : pv_XC D s) : pv_MOK (mkE B sa xv D cA H0) (PP L xs) GG 135 args s :=
  pv_mok (I := I135) hS gg_135 rfl rfl (by decide +kernel) (by decide) (pv_cw (hS.1 _ qt1682)) (hS.1 _ qt256) (by decide) (by decide) rfl (fun j x z e1 e2 => by cases e1) (rt_X7 hS) ck_135 (pv_no4 (by decide +kernel))
set_option maxRecDepth 1000000 in
theorem ck_136 : I136.all (pv_ckq RT_X7 prog_9_method_9_code (some .int)) = true := by decide +kernel
theorem mok_136 (hS : pv_ST B sa xv H0 args s) (hX : pv_XC D s) : pv_MOK (mkE B sa xv D cA H0) (PP L xs) GG 136 args s :=
  pv_mok (I := I136) hS gg_136 rfl rfl (by decide +kernel) (by decide) (pv_cw (hS.1 _ qt1687)) (hS.1 _ qt256) (by decide) (by decide) rfl (fun j x z e1 e2 => by cases e1) (rt_X7 hS) ck_136 (pv_no4 (by decide +kernel))
set_option maxRecDepth 1000000 in
theorem ck_137 : I137.all (pv_ckq RT_X7 prog_9_method_27_code (some .boolean)) = true := by decide +kernel
theorem mok_137 (hS : pv_ST B sa xv H0 args s) (hX : pv_XC D s) : pv_MOK (mkE B sa xv D cA H0) (PP L xs) GG 137 args s :=
  pv_mok (I := I137) hS gg_137 rfl rfl (by decide +kernel) (by decide) (pv_cw (hS.1 _ qt1691)) (hS.1 _ qt256) (by decide) (by decide) rfl (fun j x z e1 e2 => by cases e1) (rt_X7 hS) ck_137 (pv_no4 (by decide +kernel))
set_option maxRecDepth 1000000 in
theorem ck_138 : I138.all (pv_ckq RT_X7 prog_9_method_23_code (some .int)) = true := by decide +kernel
theorem mok_138 (hS : pv_ST B sa xv H0 args s) (hX : pv_XC D s) : pv_MOK (mkE B sa xv D cA H0) (PP L xs) GG 138 args s :=
  pv_mok (I := I138) hS gg_138 rfl rfl (by decide +kernel) (by decide) (pv_cw (hS.1 _ qt1695)) (hS.1 _ qt256) (by decide) (by decide) rfl (fun j x z e1 e2 => by cases e1) (rt_X7 hS) ck_138 (pv_no4 (by decide +kernel))
set_option maxRecDepth 1000000 in
theorem ck_139 : I139.all (pv_ckq RT_X7 prog_9_method_16_code none) = true := by decide +kernel
theorem mok_139 (hS : pv_ST B sa xv H0 args s) (hX : pv_XC D s) : pv_MOK (mkE B sa xv D cA H0) (PP L xs) GG 139 args s :=
  pv_mok (I := I139) hS gg_139 rfl rfl (by decide +kernel) (by decide) (pv_cw (hS.1 _ qt1699)) (hS.1 _ qt256) (by decide) (by decide) rfl (fun j x z e1 e2 => by cases e1) (rt_X7 hS) ck_139 (pv_no4 (by decide +kernel))
set_option maxRecDepth 1000000 in
theorem ck_140 : I140.all (pv_ckq RT_X8 prog_14_method_1_code none) = true := by decide +kernel
theorem mok_140 (hS : pv_ST B sa xv H0 args s) (hX : pv_XC D s) : pv_MOK (mkE B sa xv D cA H0) (PP L xs) GG 140 args s :=
  pv_mok (I := I140) hS gg_140 rfl rfl (by decide +kernel) (by decide) (pv_cw (hS.1 _ qt746)) (hS.1 _ qt257) (by decide) (by decide) rfl (fun j x z e1 e2 => by cases e1) (rt_X8 hS) ck_140 (pv_no4 (by decide +kernel))
set_option maxRecDepth 1000000 in
theorem ck_141 : I141.all (pv_ckq RT_X8 prog_14_method_2_code none) = true := by decide +kernel
theorem mok_141 (hS : pv_ST B sa xv H0 args s) (hX : pv_XC D s) : pv_MOK (mkE B sa xv D cA H0) (PP L xs) GG 141 args s :=
  pv_mok (I := I141) hS gg_141 rfl rfl (by decide +kernel) (by decide) (pv_cw (hS.1 _ qt1703)) (hS.1 _ qt257) (by decide) (by decide) rfl (fun j x z e1 e2 => by cases e1) (rt_X8 hS) ck_141 (pv_no4 (by decide +kernel))
set_option maxRecDepth 1000000 in
theorem ck_142_0 : (List.take 60 I142).all (pv_ckq RT_X8 prog_14_method_14_code none) = true := by decide +kernel
set_option maxRecDepth 1000000 in
theorem ck_142_1 : ((List.drop 60 I142)).all (pv_ckq RT_X8 prog_14_method_14_code none) = true := by decide +kernel
theorem ck_142 : I142.all (pv_ckq RT_X8 prog_14_method_14_code none) = true := (pv_allTD ck_142_0 ck_142_1)
theorem mok_142 (hS : pv_ST B sa xv H0 args s) (hX : pv_XC D s) : pv_MOK (mkE B sa xv D cA H0) (PP L xs) GG 142 args s :=
  pv_mok (I := I142) hS gg_142 rfl rfl (by decide +kernel) (by decide) (pv_cw (hS.1 _ qt1724)) (hS.1 _ qt257) (by decide) (by decide) rfl (fun j x z e1 e2 => by cases e1) (rt_X8 hS) ck_142 (pv_no4 (by decide +kernel))
set_option maxRecDepth 1000000 in
theorem ck_143 : I143.all (pv_ckq RT_X8 prog_14_method_16_code none) = true := by decide +kernel
theorem mok_143 (hS : pv_ST B sa xv H0 args s) (hX : pv_XC D s) : pv_MOK (mkE B sa xv D cA H0) (PP L xs) GG 143 args s :=
  pv_mok (I := I143) hS gg_143 rfl rfl (by decide +kernel) (by decide) (pv_cw (hS.1 _ qt1732)) (hS.1 _ qt257) (by decide) (by decide) rfl (fun j x z e1 e2 => by cases e1) (rt_X8 hS) ck_143 (pv_no4 (by decide +kernel))
set_option maxRecDepth 1000000 in
theorem ck_144 : I144.all (pv_ckq RT_X8 prog_14_method_6_code (some .int)) = true := by decide +kernel
theorem mok_144 (hS : pv_ST B sa xv H0 args s) (hX : pv_XC D s) : pv_MOK (mkE B sa xv D cA H0) (PP L xs) GG 144 args s :=
  pv_mok (I := I144) hS gg_144 rfl rfl (by decide +kernel) (by decide) (pv_cw (hS.1 _ qt1740)) (hS.1 _ qt257) (by decide) (by decide) rfl (fun j x z e1 e2 => by cases e1) (rt_X8 hS) ck_144 (pv_no4 (by decide +kernel))
set_option maxRecDepth 1000000 in
theorem ck_145 : I145.all (pv_ckq RT_X8 prog_14_method_15_code none) = true := by decide +kernel
theorem mok_145 (hS : pv_ST B sa xv H0 args s) (hX : pv_XC D s) : pv_MOK (mkE B sa xv D cA H0) (PP L xs) GG 145 args s :=
  pv_mok (I := I145) hS gg_145 rfl rfl (by decide +kernel) (by decide) (pv_cw (hS.1 _ qt1756)) (hS.1 _ qt257) (by decide) (by decide) rfl (fun j x z e1 e2 => by cases e1) (rt_X8 hS) ck_145 (pv_no4 (by decide +kernel))
set_option maxRecDepth 1000000 in
theorem ck_146 : I146.all (pv_ckq RT_X8 prog_14_method_11_code (some .int)) = true := by decide +kernel
theorem mok_146 (hS : pv_ST B sa xv H0 args s) (hX : pv_XC D s) : pv_MOK (mkE B sa xv D cA H0) (PP L xs) GG 146 args s :=
  pv_mok (I := I146) hS gg_146 rfl rfl (by decide +kernel) (by decide) (pv_cw (hS.1 _ qt1761)) (hS.1 _ qt257) (by decide) (by decide) rfl (fun j x z e1 e2 => by cases e1) (rt_X8 hS) ck_146 (pv_no4 (by decide +kernel))
set_option maxRecDepth 1000000 in
theorem ck_147_0 : (List.take 60 I147).all (pv_ckq RT_X8 prog_14_method_18_code (some .int)) = true := by decide +kernel
set_option maxRecDepth 1000000 in
theorem ck_147_1 : (List.take 60 (List.drop 60 I147)).all (pv_ckq RT_X8 prog_14_method_18_code (some .int)) = true := by decide +kernel
set_option maxRecDepth 1000000 in
theorem ck_147_2 : ((List.drop 60 (List.drop 60 I147))).all (pv_ckq RT_X8 prog_14_method_18_code (some .int)) = true := by decide +kernel
theorem ck_147 : I147.all (pv_ckq RT_X8 prog_14_method_18_code (some .int)) = true := (pv_allTD ck_147_0 (pv_allTD ck_147_1 ck_147_2))
theorem mok_147 (hS : pv_ST B sa xv H0 args s) (hX : pv_XC D s) : pv_MOK (mkE B sa xv D cA H0) (PP L xs) GG 147 args s :=
  pv_mok (I := I147) hS gg_147 rfl rfl (by decide +kernel) (by decide) (pv_cw (hS.1 _ qt1786)) (hS.1 _ qt257) (by decide) (by decide) rfl (fun j x z e1 e2 => by cases e1) (rt_X8 hS) ck_147 (pv_no4 (by decide +kernel))
set_option maxRecDepth 1000000 in
theorem ck_148 : I148.all (pv_ckq RT_X8 prog_14_method_17_code (some .int)) = true := by decide +kernel
theorem mok_148 (hS : pv_ST B sa xv H0 args s) (hX : pv_XC D s) : pv_MOK (mkE B sa xv D cA H0) (PP L xs) GG 148 args s :=
  pv_mok (I := I148) hS gg_148 rfl rfl (by decide +kernel) (by decide) (pv_cw (hS.1 _ qt1791)) (hS.1 _ qt257) (by decide) (by decide) rfl (fun j x z e1 e2 => by cases e1) (rt_X8 hS) ck_148 (pv_no4 (by decide +kernel))
set_option maxRecDepth 1000000 in
theorem ck_149_0 : (List.take 60 I149).all (pv_ckq RT_X8 prog_14_method_19_code none) = true := by decide +kernel
set_option maxRecDepth 1000000 in
theorem ck_149_1 : (List.take 60 (List.drop 60 I149)).all (pv_ckq RT_X8 prog_14_method_19_code none) = true := by decide +kernel
set_option maxRecDepth 1000000 in
theorem ck_149_2 : ((List.drop 60 (List.drop 60 I149))).all (pv_ckq RT_X8 prog_14_method_19_code none) = true := by decide +kernel
theorem ck_149 : I149.all (pv_ckq RT_X8 prog_14_method_19_code none) = true := (pv_allTD ck_149_0 (pv_allTD ck_149_1 ck_149_2))
theorem mok_149 (hS : pv_ST B sa xv H0 args s) (hX : pv_XC D s) : pv_MOK (mkE B sa xv D cA H0) (PP L xs) GG 149 args s :=
  pv_mok (I := I149) hS gg_149 rfl rfl (by decide +kernel) (by decide) (pv_cw (hS.1 _ qt1807)) (hS.1 _ qt257) (by decide) (by decide) rfl (fun j x z e1 e2 => by cases e1) (rt_X8 hS) ck_149 (pv_no4 (by decide +kernel))
set_option maxRecDepth 1000000 in
theorem ck_150 : I150.all (pv_ckq RT_X8 prog_14_method_13_code none) = true := by decide +kernel
theorem mok_150 (hS : pv_ST B sa xv H0 args s) (hX : pv_XC D s) : pv_MOK (mkE B sa xv D cA H0) (PP L xs) GG 150 args s :=
  pv_mok (I := I150) hS gg_150 rfl rfl (by decide +kernel) (by decide) (pv_cw (hS.1 _ qt1811)) (hS.1 _ qt257) (by decide) (by decide) rfl (fun j x z e1 e2 => by cases e1) (rt_X8 hS) ck_150 (pv_no4 (by decide +kernel))
set_option maxRecDepth 1000000 in
theorem ck_151 : I151.all (pv_ckq RT_X8 prog_14_method_12_code none) = true := by decide +kernel
theorem mok_151 (hS : pv_ST B sa xv H0 args s) (hX : pv_XC D s) : pv_MOK (mkE B sa xv D cA H0) (PP L xs) GG 151 args s :=
  pv_mok (I := I151) hS gg_151 rfl rfl (by decide +kernel) (by decide) (pv_cw (hS.1 _ qt1831)) (hS.1 _ qt257) (by decide) (by decide) rfl (fun j x z e1 e2 => by cases e1) (rt_X8 hS) ck_151 (pv_no4 (by decide +kernel))
set_option maxRecDepth 1000000 in
theorem ck_152 : I152.all (pv_ckq RT_X8 prog_14_method_20_code (some .int)) = true := by decide +kernel
theorem mok_152 (hS : pv_ST B sa xv H0 args s) (hX : pv_XC D s) : pv_MOK (mkE B sa xv D cA H0) (PP L xs) GG 152 args s :=
  pv_mok (I := I152) hS gg_152 rfl rfl (by decide +kernel) (by decide) (pv_cw (hS.1 _ qt1837)) (hS.1 _ qt257) (by decide) (by decide) rfl (fun j x z e1 e2 => by cases e1) (rt_X8 hS) ck_152 (pv_no4 (by decide +kernel))
set_option maxRecDepth 1000000 in
theorem ck_153 : I153.all (pv_ckq RT_X8 prog_14_method_3_code (some .int)) = true := by decide +kernel
theorem mok_153 (hS : pv_ST B sa xv H0 args s) (hX : pv_XC D s) : pv_MOK (mkE B sa xv D cA H0) (PP L xs) GG 153 args s :=
  pv_mok (I := I153) hS gg_153 rfl rfl (by decide +kernel) (by decide) (pv_cw (hS.1 _ qt1849)) (hS.1 _ qt257) (by decide) (by decide) rfl (fun j x z e1 e2 => by cases e1) (rt_X8 hS) ck_153 (pv_no4 (by decide +kernel))
set_option maxRecDepth 1000000 in
theorem ck_154 : I154.all (pv_ckq RT_X8 prog_14_method_8_code (some .int)) = true := by decide +kernel
theorem mok_154 (hS : pv_ST B sa xv H0 args s) (hX : pv_XC D s) : pv_MOK (mkE B sa xv D cA H0) (PP L xs) GG 154 args s :=
  pv_mok (I := I154) hS gg_154 rfl rfl (by decide +kernel) (by decide) (pv_cw (hS.1 _ qt1858)) (hS.1 _ qt257) (by decide) (by decide) rfl (fun j x z e1 e2 => by cases e1) (rt_X8 hS) ck_154 (pv_no4 (by decide +kernel))
set_option maxRecDepth 1000000 in
theorem ck_155 : I155.all (pv_ckq RT_X8 prog_14_method_7_code (some .int)) = true := by decide +kernel
theorem mok_155 (hS : pv_ST B sa xv H0 args s) (hX : pv_XC D s) : pv_MOK (mkE B sa xv D cA H0) (PP L xs) GG 155 args s :=
  pv_mok (I := I155) hS gg_155 rfl rfl (by decide +kernel) (by decide) (pv_cw (hS.1 _ qt1862)) (hS.1 _ qt257) (by decide) (by decide) rfl (fun j x z e1 e2 => by cases e1) (rt_X8 hS) ck_155 (pv_no4 (by decide +kernel))
set_option maxRecDepth 1000000 in
theorem ck_156 : I156.all (pv_ckq RT_X8 prog_14_method_4_code (some .int)) = true := by decide +kernel
theorem mok_156 (hS : pv_ST B sa xv H0 args s) (hX : pv_XC D s) : pv_MOK (mkE B sa xv D cA H0) (PP L xs) GG 156 args s :=
  pv_mok (I := I156) hS gg_156 rfl rfl (by decide +kernel) (by decide) (pv_cw (hS.1 _ qt1885)) (hS.1 _ qt257) (by decide) (by decide) rfl (fun j x z e1 e2 => by cases e1) (rt_X8 hS) ck_156 (pv_no4 (by decide +kernel))
set_option maxRecDepth 1000000 in
theorem ck_157 : I157.all (pv_ckq RT_X8 prog_14_method_5_code (some .int)) = true := by decide +kernel
theorem mok_157 (hS : pv_ST B sa xv H0 args s) (hX : pv_XC D s) : pv_MOK (mkE B sa xv D cA H0) (PP L xs) GG 157 args s :=
  pv_mok (I := I157) hS gg_157 rfl rfl (by decide +kernel) (by decide) (pv_cw (hS.1 _ qt1903)) (hS.1 _ qt257) (by decide) (by decide) rfl (fun j x z e1 e2 => by cases e1) (rt_X8 hS) ck_157 (pv_no4 (by decide +kernel))
set_option maxRecDepth 1000000 in
theorem ck_158 : I158.all (pv_ckq RT_X8 prog_14_method_9_code none) = true := by decide +kernel
theorem mok_158 (hS : pv_ST B sa xv H0 args s) (hX : pv_XC D s) : pv_MOK (mkE B sa xv D cA H0) (PP L xs) GG 158 args s :=
  pv_mok (I := I158) hS gg_158 rfl rfl (by decide +kernel) (by decide) (pv_cw (hS.1 _ qt1931)) (hS.1 _ qt257) (by decide) (by decide) rfl (fun j x z e1 e2 => by cases e1) (rt_X8 hS) ck_158 (pv_no4 (by decide +kernel))
set_option maxRecDepth 1000000 in
theorem ck_159 : I159.all (pv_ckq RT_X8 prog_14_method_10_code none) = true := by decide +kernel
theorem mok_159 (hS : pv_ST B sa xv H0 args s) (hX : pv_XC D s) : pv_MOK (mkE B sa xv D cA H0) (PP L xs) GG 159 args s :=
  pv_mok (I := I159) hS gg_159 rfl rfl (by decide +kernel) (by decide) (pv_cw (hS.1 _ qt1935)) (hS.1 _ qt257) (by decide) (by decide) rfl (fun j x z e1 e2 => by cases e1) (rt_X8 hS) ck_159 (pv_no4 (by decide +kernel))
set_option maxRecDepth 1000000 in
theorem ck_160 : I160.all (pv_ckq RT_X9 prog_10_method_1_code none) = true := by decide +kernel
theorem mok_160 (hS : pv_ST B sa xv H0 args s) (hX : pv_XC D s) : pv_MOK (mkE B sa xv D cA H0) (PP L xs) GG 160 args s :=
  pv_mok (I := I160) hS gg_160 rfl rfl (by decide +kernel) (by decide) (pv_cw (hS.1 _ qt795)) (hS.1 _ qt258) (by decide) (by decide) rfl (fun j x z e1 e2 => by cases e1) (rt_X9 hS) ck_160 (pv_no4 (by decide +kernel))
set_option maxRecDepth 1000000 in
theorem ck_161 : I161.all (pv_ckq RT_X9 prog_10_method_7_code (some .int)) = true := by decide +kernel
theorem mok_161 (hS : pv_ST B sa xv H0 args s) (hX : pv_XC D s) : pv_MOK (mkE B sa xv D cA H0) (PP L xs) GG 161 args s :=
  pv_mok (I := I161) hS gg_161 rfl rfl (by decide +kernel) (by decide) (pv_cw (hS.1 _ qt1325)) (hS.1 _ qt258) (by decide) (by decide) rfl (fun j x z e1 e2 => by cases e1) (rt_X9 hS) ck_161 (pv_no4 (by decide +kernel))
set_option maxRecDepth 1000000 in
theorem ck_162 : I162.all (pv_ckq RT_X9 prog_10_method_2_code none) = true := by decide +kernel
theorem mok_162 (hS : pv_ST B sa xv H0 args s) (hX : pv_XC D s) : pv_MOK (mkE B sa xv D cA H0) (PP L xs) GG 162 args s :=
  pv_mok (I := I162) hS gg_162 rfl rfl (by decide +kernel) (by decide) (pv_cw (hS.1 _ qt1720)) (hS.1 _ qt258) (by decide) (by decide) rfl (fun j x z e1 e2 => by cases e1) (rt_X9 hS) ck_162 (pv_no4 (by decide +kernel))
set_option maxRecDepth 1000000 in
theorem ck_163_0 : (List.take 60 I163).all (pv_ckq RT_X9 prog_10_method_10_code none) = true := by decide +kernel
set_option maxRecDepth 1000000 in
theorem ck_163_1 : (List.take 60 (List.drop 60 I163)).all (pv_ckq RT_X9 prog_10_method_10_code none) = true := by decide +kernel
set_option maxRecDepth 1000000 in
theorem ck_163_2 : ((List.drop 60 (List.drop 60 I163))).all (pv_ckq RT_X9 prog_10_method_10_code none) = true := by decide +kernel
theorem ck_163 : I163.all (pv_ckq RT_X9 prog_10_method_10_code none) = true := (pv_allTD ck_163_0 (pv_allTD ck_163_1 ck_163_2))
theorem mok_163 (hS : pv_ST B sa xv H0 args s) (hX : pv_XC D s) : pv_MOK (mkE B sa xv D cA H0) (PP L xs) GG 163 args s :=
  pv_mok (I := I163) hS gg_163 rfl rfl (by decide +kernel) (by decide) (pv_cw (hS.1 _ qt1841)) (hS.1 _ qt258) (by decide) (by decide) rfl (fun j x z e1 e2 => by cases e1) (rt_X9 hS) ck_163 (pv_no4 (by decide +kernel))
set_option maxRecDepth 1000000 in
theorem ck_164 : I164.all (pv_ckq RT_X9 prog_10_method_12_code none) = true := by decide +kernel
theorem mok_164 (hS : pv_ST B sa xv H0 args s) (hX : pv_XC D s) : pv_MOK (mkE B sa xv D cA H0) (PP L xs) GG 164 args s :=
  pv_mok (I := I164) hS gg_164 rfl rfl (by decide +kernel) (by decide) (pv_cw (hS.1 _ qt1845)) (hS.1 _ qt258) (by decide) (by decide) rfl (fun j x z e1 e2 => by cases e1) (rt_X9 hS) ck_164 (pv_no4 (by decide +kernel))
set_option maxRecDepth 1000000 in
theorem ck_165 : I165.all (pv_ckq RT_X9 prog_10_method_11_code none) = true := by decide +kernel
theorem mok_165 (hS : pv_ST B sa xv H0 args s) (hX : pv_XC D s) : pv_MOK (mkE B sa xv D cA H0) (PP L xs) GG 165 args s :=
  pv_mok (I := I165) hS gg_165 rfl rfl (by decide +kernel) (by decide) (pv_cw (hS.1 _ qt1853)) (hS.1 _ qt258) (by decide) (by decide) rfl (fun j x z e1 e2 => by cases e1) (rt_X9 hS) ck_165 (pv_no4 (by decide +kernel))
set_option maxRecDepth 1000000 in
theorem ck_166 : I166.all (pv_ckq RT_X9 prog_10_method_16_code none) = true := by decide +kernel
theorem mok_166 (hS : pv_ST B sa xv H0 args s) (hX : pv_XC D s) : pv_MOK (mkE B sa xv D cA H0) (PP L xs) GG 166 args s :=
  pv_mok (I := I166) hS gg_166 rfl rfl (by decide +kernel) (by decide) (pv_cw (hS.1 _ qt1866)) (hS.1 _ qt258) (by decide) (by decide) rfl (fun j x z e1 e2 => by cases e1) (rt_X9 hS) ck_166 (pv_no4 (by decide +kernel))
set_option maxRecDepth 1000000 in
theorem ck_167 : I167.all (pv_ckq RT_X9 prog_10_method_6_code (some .int)) = true := by decide +kernel
theorem mok_167 (hS : pv_ST B sa xv H0 args s) (hX : pv_XC D s) : pv_MOK (mkE B sa xv D cA H0) (PP L xs) GG 167 args s :=
  pv_mok (I := I167) hS gg_167 rfl rfl (by decide +kernel) (by decide) (pv_cw (hS.1 _ qt1870)) (hS.1 _ qt258) (by decide) (by decide) rfl (fun j x z e1 e2 => by cases e1) (rt_X9 hS) ck_167 (pv_no4 (by decide +kernel))
set_option maxRecDepth 1000000 in
theorem ck_168 : I168.all (pv_ckq RT_X9 prog_10_method_4_code (some .int)) = true := by decide +kernel
theorem mok_168 (hS : pv_ST B sa xv H0 args s) (hX : pv_XC D s) : pv_MOK (mkE B sa xv D cA H0) (PP L xs) GG 168 args s :=
  pv_mok (I := I168) hS gg_168 rfl rfl (by decide +kernel) (by decide) (pv_cw (hS.1 _ qt1875)) (hS.1 _ qt258) (by decide) (by decide) rfl (fun j x z e1 e2 => by cases e1) (rt_X9 hS) ck_168 (pv_no4 (by decide +kernel))
set_option maxRecDepth 1000000 in
theorem ck_169 : I169.all (pv_ckq RT_X9 prog_10_method_13_code none) = true := by decide +kernel
theorem mok_169 (hS : pv_ST B sa xv H0 args s) (hX : pv_XC D s) : pv_MOK (mkE B sa xv D cA H0) (PP L xs) GG 169 args s :=
  pv_mok (I := I169) hS gg_169 rfl rfl (by decide +kernel) (by decide) (pv_cw (hS.1 _ qt1881)) (hS.1 _ qt258) (by decide) (by decide) rfl (fun j x z e1 e2 => by cases e1) (rt_X9 hS) ck_169 (pv_no4 (by decide +kernel))
set_option maxRecDepth 1000000 in
theorem ck_170_0 : (List.take 60 I170).all (pv_ckq RT_X9 prog_10_method_14_code none) = true := by decide +kernel
set_option maxRecDepth 1000000 in
theorem ck_170_1 : (List.take 60 (List.drop 60 I170)).all (pv_ckq RT_X9 prog_10_method_14_code none) = true := by decide +kernel
set_option maxRecDepth 1000000 in
theorem ck_170_2 : ((List.drop 60 (List.drop 60 I170))).all (pv_ckq RT_X9 prog_10_method_14_code none) = true := by decide +kernel
theorem ck_170 : I170.all (pv_ckq RT_X9 prog_10_method_14_code none) = true := (pv_allTD ck_170_0 (pv_allTD ck_170_1 ck_170_2))
theorem mok_170 (hS : pv_ST B sa xv H0 args s) (hX : pv_XC D s) : pv_MOK (mkE B sa xv D cA H0) (PP L xs) GG 170 args s :=
  pv_mok (I := I170) hS gg_170 rfl rfl (by decide +kernel) (by decide) (pv_cw (hS.1 _ qt1890)) (hS.1 _ qt258) (by decide) (by decide) rfl (fun j x z e1 e2 => by cases e1) (rt_X9 hS) ck_170 (pv_no4 (by decide +kernel))
set_option maxRecDepth 1000000 in
theorem ck_171_0 : (List.take 60 I171).all (pv_ckq RT_X9 prog_10_method_15_code (some .boolean)) = true := by decide +kernel
set_option maxRecDepth 1000000 in
theorem ck_171_1 : (List.take 60 (List.drop 60 I171)).all (pv_ckq RT_X9 prog_10_method_15_code (some .boolean)) = true := by decide +kernel
set_option maxRecDepth 1000000 in
theorem ck_171_2 : ((List.drop 60 (List.drop 60 I171))).all (pv_ckq RT_X9 prog_10_method_15_code (some .boolean)) = true := by decide +kernel
theorem ck_171 : I171.all (pv_ckq RT_X9 prog_10_method_15_code (some .boolean)) = true := (pv_allTD ck_171_0 (pv_allTD ck_171_1 ck_171_2))
theorem mok_171 (hS : pv_ST B sa xv H0 args s) (hX : pv_XC D s) : pv_MOK (mkE B sa xv D cA H0) (PP L xs) GG 171 args s :=
  pv_mok (I := I171) hS gg_171 rfl rfl (by decide +kernel) (by decide) (pv_cw (hS.1 _ qt1911)) (hS.1 _ qt258) (by decide) (by decide) rfl (fun j x z e1 e2 => by cases e1) (rt_X9 hS) ck_171 (pv_no4 (by decide +kernel))
set_option maxRecDepth 1000000 in
theorem ck_172 : I172.all (pv_ckq RT_X9 prog_10_method_17_code none) = true := by decide +kernel
theorem mok_172 (hS : pv_ST B sa xv H0 args s) (hX : pv_XC D s) : pv_MOK (mkE B sa xv D cA H0) (PP L xs) GG 172 args s :=
  pv_mok (I := I172) hS gg_172 rfl rfl (by decide +kernel) (by decide) (pv_cw (hS.1 _ qt1915)) (hS.1 _ qt258) (by decide) (by decide) rfl (fun j x z e1 e2 => by cases e1) (rt_X9 hS) ck_172 (pv_no4 (by decide +kernel))
set_option maxRecDepth 1000000 in
theorem ck_173_0 : (List.take 60 I173).all (pv_ckq RT_X9 prog_10_method_18_code none) = true := by decide +kernel
set_option maxRecDepth 1000000 in
theorem ck_173_1 : (List.take 60 (List.drop 60 I173)).all (pv_ckq RT_X9 prog_10_method_18_code none) = true := by decide +kernel
set_option maxRecDepth 1000000 in
theorem ck_173_2 : ((List.drop 60 (List.drop 60 I173))).all (pv_ckq RT_X9 prog_10_method_18_code none) = true := by decide +kernel
theorem ck_173 : I173.all (pv_ckq RT_X9 prog_10_method_18_code none) = true := (pv_allTD ck_173_0 (pv_allTD ck_173_1 ck_173_2))
theorem mok_173 (hS : pv_ST B sa xv H0 args s) (hX : pv_XC D s) : pv_MOK (mkE B sa xv D cA H0) (PP L xs) GG 173 args s :=
  pv_mok (I := I173) hS gg_173 rfl rfl (by decide +kernel) (by decide) (pv_cw (hS.1 _ qt1919)) (hS.1 _ qt258) (by decide) (by decide) rfl (fun j x z e1 e2 => by cases e1) (rt_X9 hS) ck_173 (pv_no4 (by decide +kernel))
set_option maxRecDepth 1000000 in
theorem ck_174 : I174.all (pv_ckq RT_X9 prog_10_method_5_code (some .int)) = true := by decide +kernel
theorem mok_174 (hS : pv_ST B sa xv H0 args s) (hX : pv_XC D s) : pv_MOK (mkE B sa xv D cA H0) (PP L xs) GG 174 args s :=
  pv_mok (I := I174) hS gg_174 rfl rfl (by decide +kernel) (by decide) (pv_cw (hS.1 _ qt1923)) (hS.1 _ qt258) (by decide) (by decide) rfl (fun j x z e1 e2 => by cases e1) (rt_X9 hS) ck_174 (pv_no4 (by decide +kernel))
set_option maxRecDepth 1000000 in
theorem ck_175 : I175.all (pv_ckq RT_X9 prog_10_method_19_code none) = true := by decide +kernel
theorem mok_175 (hS : pv_ST B sa xv H0 args s) (hX : pv_XC D s) : pv_MOK (mkE B sa xv D cA H0) (PP L xs) GG 175 args s :=
  pv_mok (I := I175) hS gg_175 rfl rfl (by decide +kernel) (by decide) (pv_cw (hS.1 _ qt1927)) (hS.1 _ qt258) (by decide) (by decide) rfl (fun j x z e1 e2 => by cases e1) (rt_X9 hS) ck_175 (pv_no4 (by decide +kernel))
set_option maxRecDepth 1000000 in
theorem ck_176 : I176.all (pv_ckq RT_X9 prog_10_method_22_code none) = true := by decide +kernel
theorem mok_176 (hS : pv_ST B sa xv H0 args s) (hX : pv_XC D s) : pv_MOK (mkE B sa xv D cA H0) (PP L xs) GG 176 args s :=
  pv_mok (I := I176) hS gg_176 rfl rfl (by decide +kernel) (by decide) (pv_cw (hS.1 _ qt1939)) (hS.1 _ qt258) (by decide) (by decide) rfl (fun j x z e1 e2 => by cases e1) (rt_X9 hS) ck_176 (pv_no4 (by decide +kernel))
set_option maxRecDepth 1000000 in
theorem ck_177 : I177.all (pv_ckq RT_X9 prog_10_method_20_code (some .int)) = true := by decide +kernel
theorem mok_177 (hS : pv_ST B sa xv H0 args s) (hX : pv_XC D s) : pv_MOK (mkE B sa xv D cA H0) (PP L xs) GG 177 args s :=
  pv_mok (I := I177) hS gg_177 rfl rfl (by decide +kernel) (by decide) (pv_cw (hS.1 _ qt1943)) (hS.1 _ qt258) (by decide) (by decide) rfl (fun j x z e1 e2 => by cases e1) (rt_X9 hS) ck_177 (pv_no4 (by decide +kernel))
set_option maxRecDepth 1000000 in
theorem ck_178 : I178.all (pv_ckq RT_X9 prog_10_method_21_code (some .boolean)) = true := by decide +kernel
theorem mok_178 (hS : pv_ST B sa xv H0 args s) (hX : pv_XC D s) : pv_MOK (mkE B sa xv D cA H0) (PP L xs) GG 178 args s :=
  pv_mok (I := I178) hS gg_178 rfl rfl (by decide +kernel) (by decide) (pv_cw (hS.1 _ qt1951)) (hS.1 _ qt258) (by decide) (by decide) rfl (fun j x z e1 e2 => by cases e1) (rt_X9 hS) ck_178 (pv_no4 (by decide +kernel))
set_option maxRecDepth 1000000 in
theorem ck_179 : I179.all (pv_ckq RT_X9 prog_10_method_3_code (some .int)) = true := by decide +kernel
theorem mok_179 (hS : pv_ST B sa xv H0 args s) (hX : pv_XC D s) : pv_MOK (mkE B sa xv D cA H0) (PP L xs) GG 179 args s :=
  pv_mok (I := I179) hS gg_179 rfl rfl (by decide +kernel) (by decide) (pv_cw (hS.1 _ qt1993)) (hS.1 _ qt258) (by decide) (by decide) rfl (fun j x z e1 e2 => by cases e1) (rt_X9 hS) ck_179 (pv_no4 (by decide +kernel))
set_option maxRecDepth 1000000 in
theorem ck_180 : I180.all (pv_ckq RT_X9 prog_10_method_8_code (some .int)) = true := by decide +kernel
theorem mok_180 (hS : pv_ST B sa xv H0 args s) (hX : pv_XC D s) : pv_MOK (mkE B sa xv D cA H0) (PP L xs) GG 180 args s :=
  pv_mok (I := I180) hS gg_180 rfl rfl (by decide +kernel) (by decide) (pv_cw (hS.1 _ qt2163)) (hS.1 _ qt258) (by decide) (by decide) rfl (fun j x z e1 e2 => by cases e1) (rt_X9 hS) ck_180 (pv_no4 (by decide +kernel))
set_option maxRecDepth 1000000 in
theorem ck_181 : I181.all (pv_ckq RT_X9 prog_10_method_9_code (some .int)) = true := by decide +kernel
theorem mok_181 (hS : pv_ST B sa xv H0 args s) (hX : pv_XC D s) : pv_MOK (mkE B sa xv D cA H0) (PP L xs) GG 181 args s :=
  pv_mok (I := I181) hS gg_181 rfl rfl (by decide +kernel) (by decide) (pv_cw (hS.1 _ qt2263)) (hS.1 _ qt258) (by decide) (by decide) rfl (fun j x z e1 e2 => by cases e1) (rt_X9 hS) ck_181 (pv_no4 (by decide +kernel))
end RTT
