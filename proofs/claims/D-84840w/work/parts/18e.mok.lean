section RTT
variable {B : Nat} {sa : Nat → Nat} {xv : Nat → Value} {D : va_G} {cA : Nat → ClassId} {H0 : Heap} {L : Nat} {xs : Nat → Int32} {args : Array Value} {s : State}
set_option maxRecDepth 1000000 in
theorem ck_182 : I182.all (pv_ckq RT_X10 prog_7_method_1_code none) = true := by decide +kernel
theorem mok_182 (hS : pv_ST B sa xv H0 args s) (hX : pv_XC D s) : pv_MOK (mkE B sa xv D cA H0) (PP L xs) GG 182 args s :=
  pv_mok (I := I182) hS gg_182 rfl rfl (by decide +kernel) (by decide) (pv_cw (hS.1 _ qt863)) (hS.1 _ qt259) (by decide) (by decide) rfl (fun j x z e1 e2 => by cases e1) (rt_X10 hS) ck_182 (pv_no4 (by decide +kernel))
set_option maxRecDepth 1000000 in
theorem ck_183_0 : (List.take 60 I183).all (pv_ckq RT_X10 prog_7_method_4_code none) = true := by decide +kernel
set_option maxRecDepth 1000000 in
theorem ck_183_1 : (List.take 60 (List.drop 60 I183)).all (pv_ckq RT_X10 prog_7_method_4_code none) = true := by decide +kernel
set_option maxRecDepth 1000000 in
theorem ck_183_2 : ((List.drop 60 (List.drop 60 I183))).all (pv_ckq RT_X10 prog_7_method_4_code none) = true := by decide +kernel
theorem ck_183 : I183.all (pv_ckq RT_X10 prog_7_method_4_code none) = true := (pv_allTD ck_183_0 (pv_allTD ck_183_1 ck_183_2))
theorem mok_183 (hS : pv_ST B sa xv H0 args s) (hX : pv_XC D s) : pv_MOK (mkE B sa xv D cA H0) (PP L xs) GG 183 args s :=
  pv_mok (I := I183) hS gg_183 rfl rfl (by decide +kernel) (by decide) (pv_cw (hS.1 _ qt2092)) (hS.1 _ qt259) (by decide) (by decide) rfl (fun j x z e1 e2 => by cases e1) (rt_X10 hS) ck_183 (pv_no4 (by decide +kernel))
set_option maxRecDepth 1000000 in
theorem ck_184 : I184.all (pv_ckq RT_X10 prog_7_method_5_code none) = true := by decide +kernel
theorem mok_184 (hS : pv_ST B sa xv H0 args s) (hX : pv_XC D s) : pv_MOK (mkE B sa xv D cA H0) (PP L xs) GG 184 args s :=
  pv_mok (I := I184) hS gg_184 rfl rfl (by decide +kernel) (by decide) (pv_cw (hS.1 _ qt2101)) (hS.1 _ qt259) (by decide) (by decide) rfl (fun j x z e1 e2 => by cases e1) (rt_X10 hS) ck_184 (pv_no4 (by decide +kernel))
set_option maxRecDepth 1000000 in
theorem ck_185 : I185.all (pv_ckq RT_X10 prog_7_method_3_code (some .boolean)) = true := by decide +kernel
theorem mok_185 (hS : pv_ST B sa xv H0 args s) (hX : pv_XC D s) : pv_MOK (mkE B sa xv D cA H0) (PP L xs) GG 185 args s :=
  pv_mok (I := I185) hS gg_185 rfl rfl (by decide +kernel) (by decide) (pv_cw (hS.1 _ qt2105)) (hS.1 _ qt259) (by decide) (by decide) rfl (fun j x z e1 e2 => by cases e1) (rt_X10 hS) ck_185 (pv_no4 (by decide +kernel))
set_option maxRecDepth 1000000 in
theorem ck_186 : I186.all (pv_ckq RT_X10 prog_7_method_6_code none) = true := by decide +kernel
theorem mok_186 (hS : pv_ST B sa xv H0 args s) (hX : pv_XC D s) : pv_MOK (mkE B sa xv D cA H0) (PP L xs) GG 186 args s :=
  pv_mok (I := I186) hS gg_186 rfl rfl (by decide +kernel) (by decide) (pv_cw (hS.1 _ qt2112)) (hS.1 _ qt259) (by decide) (by decide) rfl (fun j x z e1 e2 => by cases e1) (rt_X10 hS) ck_186 (pv_no4 (by decide +kernel))
set_option maxRecDepth 1000000 in
theorem ck_187 : I187.all (pv_ckq RT_X10 prog_7_method_7_code none) = true := by decide +kernel
theorem mok_187 (hS : pv_ST B sa xv H0 args s) (hX : pv_XC D s) : pv_MOK (mkE B sa xv D cA H0) (PP L xs) GG 187 args s :=
  pv_mok (I := I187) hS gg_187 rfl rfl (by decide +kernel) (by decide) (pv_cw (hS.1 _ qt2117)) (hS.1 _ qt259) (by decide) (by decide) rfl (fun j x z e1 e2 => by cases e1) (rt_X10 hS) ck_187 (pv_no4 (by decide +kernel))
set_option maxRecDepth 1000000 in
theorem ck_188 : I188.all (pv_ckq RT_X10 prog_7_method_2_code none) = true := by decide +kernel
theorem mok_188 (hS : pv_ST B sa xv H0 args s) (hX : pv_XC D s) : pv_MOK (mkE B sa xv D cA H0) (PP L xs) GG 188 args s :=
  pv_mok (I := I188) hS gg_188 rfl rfl (by decide +kernel) (by decide) (pv_cw (hS.1 _ qt2121)) (hS.1 _ qt259) (by decide) (by decide) rfl (fun j x z e1 e2 => by cases e1) (rt_X10 hS) ck_188 (pv_no4 (by decide +kernel))
set_option maxRecDepth 1000000 in
theorem ck_189 : I189.all (pv_ckq RT_X10 prog_7_method_8_code (some .boolean)) = true := by decide +kernel
theorem mok_189 (hS : pv_ST B sa xv H0 args s) (hX : pv_XC D s) : pv_MOK (mkE B sa xv D cA H0) (PP L xs) GG 189 args s :=
  pv_mok (I := I189) hS gg_189 rfl rfl (by decide +kernel) (by decide) (pv_cw (hS.1 _ qt2133)) (hS.1 _ qt259) (by decide) (by decide) rfl (fun j x z e1 e2 => by cases e1) (rt_X10 hS) ck_189 (pv_no4 (by decide +kernel))
set_option maxRecDepth 1000000 in
theorem ck_190 : I190.all (pv_ckq RT_X10 prog_7_method_9_code none) = true := by decide +kernel
theorem mok_190 (hS : pv_ST B sa xv H0 args s) (hX : pv_XC D s) : pv_MOK (mkE B sa xv D cA H0) (PP L xs) GG 190 args s :=
  pv_mok (I := I190) hS gg_190 rfl rfl (by decide +kernel) (by decide) (pv_cw (hS.1 _ qt2149)) (hS.1 _ qt259) (by decide) (by decide) rfl (fun j x z e1 e2 => by cases e1) (rt_X10 hS) ck_190 (pv_no4 (by decide +kernel))
set_option maxRecDepth 1000000 in
theorem ck_191 : I191.all (pv_ckq RT_X10 prog_7_method_10_code none) = true := by decide +kernel
theorem mok_191 (hS : pv_ST B sa xv H0 args s) (hX : pv_XC D s) : pv_MOK (mkE B sa xv D cA H0) (PP L xs) GG 191 args s :=
  pv_mok (I := I191) hS gg_191 rfl rfl (by decide +kernel) (by decide) (pv_cw (hS.1 _ qt2153)) (hS.1 _ qt259) (by decide) (by decide) rfl (fun j x z e1 e2 => by cases e1) (rt_X10 hS) ck_191 (pv_no4 (by decide +kernel))
set_option maxRecDepth 1000000 in
theorem ck_192 : I192.all (pv_ckq RT_X10 prog_7_method_11_code none) = true := by decide +kernel
theorem mok_192 (hS : pv_ST B sa xv H0 args s) (hX : pv_XC D s) : pv_MOK (mkE B sa xv D cA H0) (PP L xs) GG 192 args s :=
  pv_mok (I := I192) hS gg_192 rfl rfl (by decide +kernel) (by decide) (pv_cw (hS.1 _ qt2229)) (hS.1 _ qt259) (by decide) (by decide) rfl (fun j x z e1 e2 => by cases e1) (rt_X10 hS) ck_192 (pv_no4 (by decide +kernel))
set_option maxRecDepth 1000000 in
theorem ck_193 : I193.all (pv_ckq RT_X10 prog_7_method_12_code none) = true := by decide +kernel
theorem mok_193 (hS : pv_ST B sa xv H0 args s) (hX : pv_XC D s) : pv_MOK (mkE B sa xv D cA H0) (PP L xs) GG 193 args s :=
  pv_mok (I := I193) hS gg_193 rfl rfl (by decide +kernel) (by decide) (pv_cw (hS.1 _ qt2235)) (hS.1 _ qt259) (by decide) (by decide) rfl (fun j x z e1 e2 => by cases e1) (rt_X10 hS) ck_193 (pv_no4 (by decide +kernel))
set_option maxRecDepth 1000000 in
theorem ck_194 : I194.all (pv_ckq RT_X10 prog_7_method_13_code none) = true := by decide +kernel
theorem mok_194 (hS : pv_ST B sa xv H0 args s) (hX : pv_XC D s) : pv_MOK (mkE B sa xv D cA H0) (PP L xs) GG 194 args s :=
  pv_mok (I := I194) hS gg_194 rfl rfl (by decide +kernel) (by decide) (pv_cw (hS.1 _ qt2243)) (hS.1 _ qt259) (by decide) (by decide) rfl (fun j x z e1 e2 => by cases e1) (rt_X10 hS) ck_194 (pv_no4 (by decide +kernel))
set_option maxRecDepth 1000000 in
theorem ck_195 : I195.all (pv_ckq RT_X11 prog_2_method_1_code none) = true := by decide +kernel
theorem mok_195 (hS : pv_ST B sa xv H0 args s) (hX : pv_XC D s) : pv_MOK (mkE B sa xv D cA H0) (PP L xs) GG 195 args s :=
  pv_mok (I := I195) hS gg_195 rfl rfl (by decide +kernel) (by decide) (pv_cw (hS.1 _ qt915)) (hS.1 _ qt260) (by decide) (by decide) rfl (fun j x z e1 e2 => by cases e1) (rt_X11 hS) ck_195 (pv_no4 (by decide +kernel))
set_option maxRecDepth 1000000 in
theorem ck_196 : I196.all (pv_ckq RT_X11 prog_2_method_6_code (some .int)) = true := by decide +kernel
theorem mok_196 (hS : pv_ST B sa xv H0 args s) (hX : pv_XC D s) : pv_MOK (mkE B sa xv D cA H0) (PP L xs) GG 196 args s :=
  pv_mok (I := I196) hS gg_196 rfl rfl (by decide +kernel) (by decide) (pv_cw (hS.1 _ qt1321)) (hS.1 _ qt260) (by decide) (by decide) rfl (fun j x z e1 e2 => by cases e1) (rt_X11 hS) ck_196 (pv_no4 (by decide +kernel))
set_option maxRecDepth 1000000 in
theorem ck_197_0 : (List.take 60 I197).all (pv_ckq RT_X11 prog_2_method_11_code none) = true := by decide +kernel
set_option maxRecDepth 1000000 in
theorem ck_197_1 : (List.take 60 (List.drop 60 I197)).all (pv_ckq RT_X11 prog_2_method_11_code none) = true := by decide +kernel
set_option maxRecDepth 1000000 in
theorem ck_197_2 : ((List.drop 60 (List.drop 60 I197))).all (pv_ckq RT_X11 prog_2_method_11_code none) = true := by decide +kernel
theorem ck_197 : I197.all (pv_ckq RT_X11 prog_2_method_11_code none) = true := (pv_allTD ck_197_0 (pv_allTD ck_197_1 ck_197_2))
theorem mok_197 (hS : pv_ST B sa xv H0 args s) (hX : pv_XC D s) : pv_MOK (mkE B sa xv D cA H0) (PP L xs) GG 197 args s :=
  pv_mok (I := I197) hS gg_197 rfl rfl (by decide +kernel) (by decide) (pv_cw (hS.1 _ qt1976)) (hS.1 _ qt260) (by decide) (by decide) rfl (fun j x z e1 e2 => by cases e1) (rt_X11 hS) ck_197 (pv_no4 (by decide +kernel))
set_option maxRecDepth 1000000 in
theorem ck_198 : I198.all (pv_ckq RT_X11 prog_2_method_13_code none) = true := by decide +kernel
theorem mok_198 (hS : pv_ST B sa xv H0 args s) (hX : pv_XC D s) : pv_MOK (mkE B sa xv D cA H0) (PP L xs) GG 198 args s :=
  pv_mok (I := I198) hS gg_198 rfl rfl (by decide +kernel) (by decide) (pv_cw (hS.1 _ qt1984)) (hS.1 _ qt260) (by decide) (by decide) rfl (fun j x z e1 e2 => by cases e1) (rt_X11 hS) ck_198 (pv_no4 (by decide +kernel))
set_option maxRecDepth 1000000 in
theorem ck_199 : I199.all (pv_ckq RT_X11 prog_2_method_7_code none) = true := by decide +kernel
theorem mok_199 (hS : pv_ST B sa xv H0 args s) (hX : pv_XC D s) : pv_MOK (mkE B sa xv D cA H0) (PP L xs) GG 199 args s :=
  pv_mok (I := I199) hS gg_199 rfl rfl (by decide +kernel) (by decide) (pv_cw (hS.1 _ qt1988)) (hS.1 _ qt260) (by decide) (by decide) rfl (fun j x z e1 e2 => by cases e1) (rt_X11 hS) ck_199 (pv_no4 (by decide +kernel))
set_option maxRecDepth 1000000 in
theorem ck_200 : I200.all (pv_ckq RT_X11 prog_2_method_8_code none) = true := by decide +kernel
theorem mok_200 (hS : pv_ST B sa xv H0 args s) (hX : pv_XC D s) : pv_MOK (mkE B sa xv D cA H0) (PP L xs) GG 200 args s :=
  pv_mok (I := I200) hS gg_200 rfl rfl (by decide +kernel) (by decide) (pv_cw (hS.1 _ qt1998)) (hS.1 _ qt260) (by decide) (by decide) rfl (fun j x z e1 e2 => by cases e1) (rt_X11 hS) ck_200 (pv_no4 (by decide +kernel))
set_option maxRecDepth 1000000 in
theorem ck_201_0 : (List.take 60 I201).all (pv_ckq RT_X11 prog_2_method_16_code none) = true := by decide +kernel
set_option maxRecDepth 1000000 in
theorem ck_201_1 : (List.take 60 (List.drop 60 I201)).all (pv_ckq RT_X11 prog_2_method_16_code none) = true := by decide +kernel
set_option maxRecDepth 1000000 in
theorem ck_201_2 : ((List.drop 60 (List.drop 60 I201))).all (pv_ckq RT_X11 prog_2_method_16_code none) = true := by decide +kernel
theorem ck_201 : I201.all (pv_ckq RT_X11 prog_2_method_16_code none) = true := (pv_allTD ck_201_0 (pv_allTD ck_201_1 ck_201_2))
theorem mok_201 (hS : pv_ST B sa xv H0 args s) (hX : pv_XC D s) : pv_MOK (mkE B sa xv D cA H0) (PP L xs) GG 201 args s :=
  pv_mok (I := I201) hS gg_201 rfl rfl (by decide +kernel) (by decide) (pv_cw (hS.1 _ qt2002)) (hS.1 _ qt260) (by decide) (by decide) rfl (fun j x z e1 e2 => by cases e1) (rt_X11 hS) ck_201 (pv_no4 (by decide +kernel))
set_option maxRecDepth 1000000 in
theorem ck_202 : I202.all (pv_ckq RT_X11 prog_2_method_15_code none) = true := by decide +kernel
theorem mok_202 (hS : pv_ST B sa xv H0 args s) (hX : pv_XC D s) : pv_MOK (mkE B sa xv D cA H0) (PP L xs) GG 202 args s :=
  pv_mok (I := I202) hS gg_202 rfl rfl (by decide +kernel) (by decide) (pv_cw (hS.1 _ qt2006)) (hS.1 _ qt260) (by decide) (by decide) rfl (fun j x z e1 e2 => by cases e1) (rt_X11 hS) ck_202 (pv_no4 (by decide +kernel))
set_option maxRecDepth 1000000 in
theorem ck_203 : I203.all (pv_ckq RT_X11 prog_2_method_19_code none) = true := by decide +kernel
theorem mok_203 (hS : pv_ST B sa xv H0 args s) (hX : pv_XC D s) : pv_MOK (mkE B sa xv D cA H0) (PP L xs) GG 203 args s :=
  pv_mok (I := I203) hS gg_203 rfl rfl (by decide +kernel) (by decide) (pv_cw (hS.1 _ qt2011)) (hS.1 _ qt260) (by decide) (by decide) rfl (fun j x z e1 e2 => by cases e1) (rt_X11 hS) ck_203 (pv_no4 (by decide +kernel))
set_option maxRecDepth 1000000 in
theorem ck_204 : I204.all (pv_ckq RT_X11 prog_2_method_14_code none) = true := by decide +kernel
theorem mok_204 (hS : pv_ST B sa xv H0 args s) (hX : pv_XC D s) : pv_MOK (mkE B sa xv D cA H0) (PP L xs) GG 204 args s :=
  pv_mok (I := I204) hS gg_204 rfl rfl (by decide +kernel) (by decide) (pv_cw (hS.1 _ qt2019)) (hS.1 _ qt260) (by decide) (by decide) rfl (fun j x z e1 e2 => by cases e1) (rt_X11 hS) ck_204 (pv_no4 (by decide +kernel))
set_option maxRecDepth 1000000 in
theorem ck_205 : I205.all (pv_ckq RT_X11 prog_2_method_12_code (some .int)) = true := by decide +kernel
theorem mok_205 (hS : pv_ST B sa xv H0 args s) (hX : pv_XC D s) : pv_MOK (mkE B sa xv D cA H0) (PP L xs) GG 205 args s :=
  pv_mok (I := I205) hS gg_205 rfl rfl (by decide +kernel) (by decide) (pv_cw (hS.1 _ qt2023)) (hS.1 _ qt260) (by decide) (by decide) rfl (fun j x z e1 e2 => by cases e1) (rt_X11 hS) ck_205 (pv_no4 (by decide +kernel))
set_option maxRecDepth 1000000 in
theorem ck_206 : I206.all (pv_ckq RT_X11 prog_2_method_20_code none) = true := by decide +kernel
theorem mok_206 (hS : pv_ST B sa xv H0 args s) (hX : pv_XC D s) : pv_MOK (mkE B sa xv D cA H0) (PP L xs) GG 206 args s :=
  pv_mok (I := I206) hS gg_206 rfl rfl (by decide +kernel) (by decide) (pv_cw (hS.1 _ qt2028)) (hS.1 _ qt260) (by decide) (by decide) rfl (fun j x z e1 e2 => by cases e1) (rt_X11 hS) ck_206 (pv_no4 (by decide +kernel))
set_option maxRecDepth 1000000 in
theorem ck_207 : I207.all (pv_ckq RT_X11 prog_2_method_17_code none) = true := by decide +kernel
theorem mok_207 (hS : pv_ST B sa xv H0 args s) (hX : pv_XC D s) : pv_MOK (mkE B sa xv D cA H0) (PP L xs) GG 207 args s :=
  pv_mok (I := I207) hS gg_207 rfl rfl (by decide +kernel) (by decide) (pv_cw (hS.1 _ qt2032)) (hS.1 _ qt260) (by decide) (by decide) rfl (fun j x z e1 e2 => by cases e1) (rt_X11 hS) ck_207 (pv_no4 (by decide +kernel))
set_option maxRecDepth 1000000 in
theorem ck_208 : I208.all (pv_ckq RT_X11 prog_2_method_9_code (some .int)) = true := by decide +kernel
theorem mok_208 (hS : pv_ST B sa xv H0 args s) (hX : pv_XC D s) : pv_MOK (mkE B sa xv D cA H0) (PP L xs) GG 208 args s :=
  pv_mok (I := I208) hS gg_208 rfl rfl (by decide +kernel) (by decide) (pv_cw (hS.1 _ qt2036)) (hS.1 _ qt260) (by decide) (by decide) rfl (fun j x z e1 e2 => by cases e1) (rt_X11 hS) ck_208 (pv_no4 (by decide +kernel))
set_option maxRecDepth 1000000 in
theorem ck_209 : I209.all (pv_ckq RT_X11 prog_2_method_10_code none) = true := by decide +kernel
theorem mok_209 (hS : pv_ST B sa xv H0 args s) (hX : pv_XC D s) : pv_MOK (mkE B sa xv D cA H0) (PP L xs) GG 209 args s :=
  pv_mok (I := I209) hS gg_209 rfl rfl (by decide +kernel) (by decide) (pv_cw (hS.1 _ qt2040)) (hS.1 _ qt260) (by decide) (by decide) rfl (fun j x z e1 e2 => by cases e1) (rt_X11 hS) ck_209 (pv_no4 (by decide +kernel))
set_option maxRecDepth 1000000 in
theorem ck_210 : I210.all (pv_ckq RT_X11 prog_2_method_18_code none) = true := by decide +kernel
theorem mok_210 (hS : pv_ST B sa xv H0 args s) (hX : pv_XC D s) : pv_MOK (mkE B sa xv D cA H0) (PP L xs) GG 210 args s :=
  pv_mok (I := I210) hS gg_210 rfl rfl (by decide +kernel) (by decide) (pv_cw (hS.1 _ qt2044)) (hS.1 _ qt260) (by decide) (by decide) rfl (fun j x z e1 e2 => by cases e1) (rt_X11 hS) ck_210 (pv_no4 (by decide +kernel))
set_option maxRecDepth 1000000 in
theorem ck_211 : I211.all (pv_ckq RT_X11 prog_2_method_3_code (some .int)) = true := by decide +kernel
theorem mok_211 (hS : pv_ST B sa xv H0 args s) (hX : pv_XC D s) : pv_MOK (mkE B sa xv D cA H0) (PP L xs) GG 211 args s :=
  pv_mok (I := I211) hS gg_211 rfl rfl (by decide +kernel) (by decide) (pv_cw (hS.1 _ qt2290)) (hS.1 _ qt260) (by decide) (by decide) rfl (fun j x z e1 e2 => by cases e1) (rt_X11 hS) ck_211 (pv_no4 (by decide +kernel))
set_option maxRecDepth 1000000 in
theorem ck_212 : I212.all (pv_ckq RT_X11 prog_2_method_2_code (some .int)) = true := by decide +kernel
theorem mok_212 (hS : pv_ST B sa xv H0 args s) (hX : pv_XC D s) : pv_MOK (mkE B sa xv D cA H0) (PP L xs) GG 212 args s :=
  pv_mok (I := I212) hS gg_212 rfl rfl (by decide +kernel) (by decide) (pv_cw (hS.1 _ qt2315)) (hS.1 _ qt260) (by decide) (by decide) rfl (fun j x z e1 e2 => by cases e1) (rt_X11 hS) ck_212 (pv_no4 (by decide +kernel))
set_option maxRecDepth 1000000 in
theorem ck_213 : I213.all (pv_ckq RT_X11 prog_2_method_5_code (some .int)) = true := by decide +kernel
theorem mok_213 (hS : pv_ST B sa xv H0 args s) (hX : pv_XC D s) : pv_MOK (mkE B sa xv D cA H0) (PP L xs) GG 213 args s :=
  pv_mok (I := I213) hS gg_213 rfl rfl (by decide +kernel) (by decide) (pv_cw (hS.1 _ qt2429)) (hS.1 _ qt260) (by decide) (by decide) rfl (fun j x z e1 e2 => by cases e1) (rt_X11 hS) ck_213 (pv_no4 (by decide +kernel))
set_option maxRecDepth 1000000 in
theorem ck_214 : I214.all (pv_ckq RT_X11 prog_2_method_4_code (some .int)) = true := by decide +kernel
theorem mok_214 (hS : pv_ST B sa xv H0 args s) (hX : pv_XC D s) : pv_MOK (mkE B sa xv D cA H0) (PP L xs) GG 214 args s :=
  pv_mok (I := I214) hS gg_214 rfl rfl (by decide +kernel) (by decide) (pv_cw (hS.1 _ qt2433)) (hS.1 _ qt260) (by decide) (by decide) rfl (fun j x z e1 e2 => by cases e1) (rt_X11 hS) ck_214 (pv_no4 (by decide +kernel))
set_option maxRecDepth 1000000 in
theorem ck_215 : I215.all (pv_ckq RT_X12 prog_12_method_1_code none) = true := by decide +kernel
theorem mok_215 (hS : pv_ST B sa xv H0 args s) (hX : pv_XC D s) : pv_MOK (mkE B sa xv D cA H0) (PP L xs) GG 215 args s :=
  pv_mok (I := I215) hS gg_215 rfl rfl (by decide +kernel) (by decide) (pv_cw (hS.1 _ qt955)) (hS.1 _ qt261) (by decide) (by decide) rfl (fun j x z e1 e2 => by cases e1) (rt_X12 hS) ck_215 (pv_no4 (by decide +kernel))
set_option maxRecDepth 1000000 in
theorem ck_216 : I216.all (pv_ckq RT_X12 prog_12_method_3_code none) = true := by decide +kernel
theorem mok_216 (hS : pv_ST B sa xv H0 args s) (hX : pv_XC D s) : pv_MOK (mkE B sa xv D cA H0) (PP L xs) GG 216 args s :=
  pv_mok (I := I216) hS gg_216 rfl rfl (by decide +kernel) (by decide) (pv_cw (hS.1 _ qt1227)) (hS.1 _ qt261) (by decide) (by decide) rfl (fun j x z e1 e2 => by cases e1) (rt_X12 hS) ck_216 (pv_no4 (by decide +kernel))
set_option maxRecDepth 1000000 in
theorem ck_217 : I217.all (pv_ckq RT_X12 prog_12_method_2_code (some .int)) = true := by decide +kernel
theorem mok_217 (hS : pv_ST B sa xv H0 args s) (hX : pv_XC D s) : pv_MOK (mkE B sa xv D cA H0) (PP L xs) GG 217 args s :=
  pv_mok (I := I217) hS gg_217 rfl rfl (by decide +kernel) (by decide) (pv_cw (hS.1 _ qt1264)) (hS.1 _ qt261) (by decide) (by decide) rfl (fun j x z e1 e2 => by cases e1) (rt_X12 hS) ck_217 (pv_no4 (by decide +kernel))
set_option maxRecDepth 1000000 in
theorem ck_218 : I218.all (pv_ckq RT_X12 prog_12_method_8_code (some .int)) = true := by decide +kernel
theorem mok_218 (hS : pv_ST B sa xv H0 args s) (hX : pv_XC D s) : pv_MOK (mkE B sa xv D cA H0) (PP L xs) GG 218 args s :=
  pv_mok (I := I218) hS gg_218 rfl rfl (by decide +kernel) (by decide) (pv_cw (hS.1 _ qt1305)) (hS.1 _ qt261) (by decide) (by decide) rfl (fun j x z e1 e2 => by cases e1) (rt_X12 hS) ck_218 (pv_no4 (by decide +kernel))
set_option maxRecDepth 1000000 in
theorem ck_219 : I219.all (pv_ckq RT_X12 prog_12_method_7_code (some .int)) = true := by decide +kernel
theorem mok_219 (hS : pv_ST B sa xv H0 args s) (hX : pv_XC D s) : pv_MOK (mkE B sa xv D cA H0) (PP L xs) GG 219 args s :=
  pv_mok (I := I219) hS gg_219 rfl rfl (by decide +kernel) (by decide) (pv_cw (hS.1 _ qt1309)) (hS.1 _ qt261) (by decide) (by decide) rfl (fun j x z e1 e2 => by cases e1) (rt_X12 hS) ck_219 (pv_no4 (by decide +kernel))
set_option maxRecDepth 1000000 in
theorem ck_220 : I220.all (pv_ckq RT_X12 prog_12_method_6_code none) = true := by decide +kernel
theorem mok_220 (hS : pv_ST B sa xv H0 args s) (hX : pv_XC D s) : pv_MOK (mkE B sa xv D cA H0) (PP L xs) GG 220 args s :=
  pv_mok (I := I220) hS gg_220 rfl rfl (by decide +kernel) (by decide) (pv_cw (hS.1 _ qt1348)) (hS.1 _ qt261) (by decide) (by decide) rfl (fun j x z e1 e2 => by cases e1) (rt_X12 hS) ck_220 (pv_no4 (by decide +kernel))
set_option maxRecDepth 1000000 in
theorem ck_221 : I221.all (pv_ckq RT_X12 prog_12_method_4_code (some .boolean)) = true := by decide +kernel
theorem mok_221 (hS : pv_ST B sa xv H0 args s) (hX : pv_XC D s) : pv_MOK (mkE B sa xv D cA H0) (PP L xs) GG 221 args s :=
  pv_mok (I := I221) hS gg_221 rfl rfl (by decide +kernel) (by decide) (pv_cw (hS.1 _ qt2339)) (hS.1 _ qt261) (by decide) (by decide) rfl (fun j x z e1 e2 => by cases e1) (rt_X12 hS) ck_221 (pv_no4 (by decide +kernel))
set_option maxRecDepth 1000000 in
theorem ck_222 : I222.all (pv_ckq RT_X12 prog_12_method_5_code none) = true := by decide +kernel
theorem mok_222 (hS : pv_ST B sa xv H0 args s) (hX : pv_XC D s) : pv_MOK (mkE B sa xv D cA H0) (PP L xs) GG 222 args s :=
  pv_mok (I := I222) hS gg_222 rfl rfl (by decide +kernel) (by decide) (pv_cw (hS.1 _ qt2343)) (hS.1 _ qt261) (by decide) (by decide) rfl (fun j x z e1 e2 => by cases e1) (rt_X12 hS) ck_222 (pv_no4 (by decide +kernel))
set_option maxRecDepth 1000000 in
theorem ck_223 : I223.all (pv_ckq RT_X12 prog_12_method_10_code none) = true := by decide +kernel
theorem mok_223 (hS : pv_ST B sa xv H0 args s) (hX : pv_XC D s) : pv_MOK (mkE B sa xv D cA H0) (PP L xs) GG 223 args s :=
  pv_mok (I := I223) hS gg_223 rfl rfl (by decide +kernel) (by decide) (pv_cw (hS.1 _ qt2392)) (hS.1 _ qt261) (by decide) (by decide) rfl (fun j x z e1 e2 => by cases e1) (rt_X12 hS) ck_223 (pv_no4 (by decide +kernel))
set_option maxRecDepth 1000000 in
theorem ck_224 : I224.all (pv_ckq RT_X12 prog_12_method_9_code none) = true := by decide +kernel
theorem mok_224 (hS : pv_ST B sa xv H0 args s) (hX : pv_XC D s) : pv_MOK (mkE B sa xv D cA H0) (PP L xs) GG 224 args s :=
  pv_mok (I := I224) hS gg_224 rfl rfl (by decide +kernel) (by decide) (pv_cw (hS.1 _ qt2412)) (hS.1 _ qt261) (by decide) (by decide) rfl (fun j x z e1 e2 => by cases e1) (rt_X12 hS) ck_224 (pv_no4 (by decide +kernel))
set_option maxRecDepth 1000000 in
theorem ck_225 : I225.all (pv_ckq RT_X13 prog_6_method_1_code none) = true := by decide +kernel
theorem mok_225 (hS : pv_ST B sa xv H0 args s) (hX : pv_XC D s) : pv_MOK (mkE B sa xv D cA H0) (PP L xs) GG 225 args s :=
  pv_mok (I := I225) hS gg_225 rfl rfl (by decide +kernel) (by decide) (pv_cw (hS.1 _ qt971)) (hS.1 _ qt262) (by decide) (by decide) rfl (fun j x z e1 e2 => by cases e1) (rt_X13 hS) ck_225 (pv_no4 (by decide +kernel))
set_option maxRecDepth 1000000 in
theorem ck_226 : I226.all (pv_ckq RT_X13 prog_6_method_3_code none) = true := by decide +kernel
theorem mok_226 (hS : pv_ST B sa xv H0 args s) (hX : pv_XC D s) : pv_MOK (mkE B sa xv D cA H0) (PP L xs) GG 226 args s :=
  pv_mok (I := I226) hS gg_226 rfl rfl (by decide +kernel) (by decide) (pv_cw (hS.1 _ qt977)) (hS.1 _ qt262) (by decide) (by decide) rfl (fun j x z e1 e2 => by cases e1) (rt_X13 hS) ck_226 (pv_no4 (by decide +kernel))
set_option maxRecDepth 1000000 in
theorem ck_227 : I227.all (pv_ckq RT_X13 prog_6_method_4_code none) = true := by decide +kernel
theorem mok_227 (hS : pv_ST B sa xv H0 args s) (hX : pv_XC D s) : pv_MOK (mkE B sa xv D cA H0) (PP L xs) GG 227 args s :=
  pv_mok (I := I227) hS gg_227 rfl rfl (by decide +kernel) (by decide) (pv_cw (hS.1 _ qt1232)) (hS.1 _ qt262) (by decide) (by decide) rfl (fun j x z e1 e2 => by cases e1) (rt_X13 hS) ck_227 (pv_no4 (by decide +kernel))
set_option maxRecDepth 1000000 in
theorem ck_228 : I228.all (pv_ckq RT_X13 prog_6_method_2_code none) = true := by decide +kernel
theorem mok_228 (hS : pv_ST B sa xv H0 args s) (hX : pv_XC D s) : pv_MOK (mkE B sa xv D cA H0) (PP L xs) GG 228 args s :=
  pv_mok (I := I228) hS gg_228 rfl rfl (by decide +kernel) (by decide) (pv_cw (hS.1 _ qt1236)) (hS.1 _ qt262) (by decide) (by decide) rfl (fun j x z e1 e2 => by cases e1) (rt_X13 hS) ck_228 (pv_no4 (by decide +kernel))
set_option maxRecDepth 1000000 in
theorem ck_229 : I229.all (pv_ckq RT_X13 prog_6_method_24_code (some .int)) = true := by decide +kernel
theorem mok_229 (hS : pv_ST B sa xv H0 args s) (hX : pv_XC D s) : pv_MOK (mkE B sa xv D cA H0) (PP L xs) GG 229 args s :=
  pv_mok (I := I229) hS gg_229 rfl rfl (by decide +kernel) (by decide) (pv_cw (hS.1 _ qt1268)) (hS.1 _ qt262) (by decide) (by decide) rfl (fun j x z e1 e2 => by cases e1) (rt_X13 hS) ck_229 (pv_no4 (by decide +kernel))
set_option maxRecDepth 1000000 in
theorem ck_230 : I230.all (pv_ckq RT_X13 prog_6_method_25_code (some .int)) = true := by decide +kernel
theorem mok_230 (hS : pv_ST B sa xv H0 args s) (hX : pv_XC D s) : pv_MOK (mkE B sa xv D cA H0) (PP L xs) GG 230 args s :=
  pv_mok (I := I230) hS gg_230 rfl rfl (by decide +kernel) (by decide) (pv_cw (hS.1 _ qt1276)) (hS.1 _ qt262) (by decide) (by decide) rfl (fun j x z e1 e2 => by cases e1) (rt_X13 hS) ck_230 (pv_no4 (by decide +kernel))
set_option maxRecDepth 1000000 in
theorem ck_231 : I231.all (pv_ckq RT_X13 prog_6_method_20_code (some .boolean)) = true := by decide +kernel
theorem mok_231 (hS : pv_ST B sa xv H0 args s) (hX : pv_XC D s) : pv_MOK (mkE B sa xv D cA H0) (PP L xs) GG 231 args s :=
  pv_mok (I := I231) hS gg_231 rfl rfl (by decide +kernel) (by decide) (pv_cw (hS.1 _ qt1296)) (hS.1 _ qt262) (by decide) (by decide) rfl (fun j x z e1 e2 => by cases e1) (rt_X13 hS) ck_231 (pv_no4 (by decide +kernel))
set_option maxRecDepth 1000000 in
theorem ck_232 : I232.all (pv_ckq RT_X13 prog_6_method_7_code none) = true := by decide +kernel
theorem mok_232 (hS : pv_ST B sa xv H0 args s) (hX : pv_XC D s) : pv_MOK (mkE B sa xv D cA H0) (PP L xs) GG 232 args s :=
  pv_mok (I := I232) hS gg_232 rfl rfl (by decide +kernel) (by decide) (pv_cw (hS.1 _ qt1300)) (hS.1 _ qt262) (by decide) (by decide) rfl (fun j x z e1 e2 => by cases e1) (rt_X13 hS) ck_232 (pv_no4 (by decide +kernel))
set_option maxRecDepth 1000000 in
theorem ck_233 : I233.all (pv_ckq RT_X13 prog_6_method_22_code (some .int)) = true := by decide +kernel
theorem mok_233 (hS : pv_ST B sa xv H0 args s) (hX : pv_XC D s) : pv_MOK (mkE B sa xv D cA H0) (PP L xs) GG 233 args s :=
  pv_mok (I := I233) hS gg_233 rfl rfl (by decide +kernel) (by decide) (pv_cw (hS.1 _ qt1313)) (hS.1 _ qt262) (by decide) (by decide) rfl (fun j x z e1 e2 => by cases e1) (rt_X13 hS) ck_233 (pv_no4 (by decide +kernel))
set_option maxRecDepth 1000000 in
theorem ck_234 : I234.all (pv_ckq RT_X13 prog_6_method_17_code (some .int)) = true := by decide +kernel
theorem mok_234 (hS : pv_ST B sa xv H0 args s) (hX : pv_XC D s) : pv_MOK (mkE B sa xv D cA H0) (PP L xs) GG 234 args s :=
  pv_mok (I := I234) hS gg_234 rfl rfl (by decide +kernel) (by decide) (pv_cw (hS.1 _ qt1317)) (hS.1 _ qt262) (by decide) (by decide) rfl (fun j x z e1 e2 => by cases e1) (rt_X13 hS) ck_234 (pv_no4 (by decide +kernel))
set_option maxRecDepth 1000000 in
theorem ck_235 : I235.all (pv_ckq RT_X13 prog_6_method_11_code (some .boolean)) = true := by decide +kernel
theorem mok_235 (hS : pv_ST B sa xv H0 args s) (hX : pv_XC D s) : pv_MOK (mkE B sa xv D cA H0) (PP L xs) GG 235 args s :=
  pv_mok (I := I235) hS gg_235 rfl rfl (by decide +kernel) (by decide) (pv_cw (hS.1 _ qt1329)) (hS.1 _ qt262) (by decide) (by decide) rfl (fun j x z e1 e2 => by cases e1) (rt_X13 hS) ck_235 (pv_no4 (by decide +kernel))
set_option maxRecDepth 1000000 in
theorem ck_236 : I236.all (pv_ckq RT_X13 prog_6_method_10_code none) = true := by decide +kernel
theorem mok_236 (hS : pv_ST B sa xv H0 args s) (hX : pv_XC D s) : pv_MOK (mkE B sa xv D cA H0) (PP L xs) GG 236 args s :=
  pv_mok (I := I236) hS gg_236 rfl rfl (by decide +kernel) (by decide) (pv_cw (hS.1 _ qt1333)) (hS.1 _ qt262) (by decide) (by decide) rfl (fun j x z e1 e2 => by cases e1) (rt_X13 hS) ck_236 (pv_no4 (by decide +kernel))
set_option maxRecDepth 1000000 in
theorem ck_237 : I237.all (pv_ckq RT_X13 prog_6_method_12_code (some .int)) = true := by decide +kernel
theorem mok_237 (hS : pv_ST B sa xv H0 args s) (hX : pv_XC D s) : pv_MOK (mkE B sa xv D cA H0) (PP L xs) GG 237 args s :=
  pv_mok (I := I237) hS gg_237 rfl rfl (by decide +kernel) (by decide) (pv_cw (hS.1 _ qt1340)) (hS.1 _ qt262) (by decide) (by decide) rfl (fun j x z e1 e2 => by cases e1) (rt_X13 hS) ck_237 (pv_no4 (by decide +kernel))
set_option maxRecDepth 1000000 in
theorem ck_238 : I238.all (pv_ckq RT_X13 prog_6_method_14_code none) = true := by decide +kernel
theorem mok_238 (hS : pv_ST B sa xv H0 args s) (hX : pv_XC D s) : pv_MOK (mkE B sa xv D cA H0) (PP L xs) GG 238 args s :=
  pv_mok (I := I238) hS gg_238 rfl rfl (by decide +kernel) (by decide) (pv_cw (hS.1 _ qt1344)) (hS.1 _ qt262) (by decide) (by decide) rfl (fun j x z e1 e2 => by cases e1) (rt_X13 hS) ck_238 (pv_no4 (by decide +kernel))
set_option maxRecDepth 1000000 in
theorem ck_239 : I239.all (pv_ckq RT_X13 prog_6_method_21_code (some .boolean)) = true := by decide +kernel
theorem mok_239 (hS : pv_ST B sa xv H0 args s) (hX : pv_XC D s) : pv_MOK (mkE B sa xv D cA H0) (PP L xs) GG 239 args s :=
  pv_mok (I := I239) hS gg_239 rfl rfl (by decide +kernel) (by decide) (pv_cw (hS.1 _ qt1352)) (hS.1 _ qt262) (by decide) (by decide) rfl (fun j x z e1 e2 => by cases e1) (rt_X13 hS) ck_239 (pv_no4 (by decide +kernel))
end RTT
