theorem qt268 : (Jvm.Cond.initialized "java/lang/UnsupportedOperationException") ∈ lw_tbl := lw_at lw_m1 23 rfl
theorem qt272 : (Jvm.Cond.initialized "java/lang/IllegalArgumentException") ∈ lw_tbl := lw_at lw_m1 27 rfl
theorem qt273 : (Jvm.Cond.initialized "java/lang/IllegalStateException") ∈ lw_tbl := lw_at lw_m1 28 rfl
theorem qt274 : (Jvm.Cond.initialized "java/lang/IndexOutOfBoundsException") ∈ lw_tbl := lw_at lw_m1 29 rfl
theorem qt1364 : (Jvm.Cond.classLink "RegionHouseLaw" (13 : Nat) "java/lang/IllegalArgumentException") ∈ lw_tbl := lw_at lw_m5 159 rfl
theorem qt1369 : (Jvm.Cond.classLink "RegionHouse" (172 : Nat) "java/lang/UnsupportedOperationException") ∈ lw_tbl := lw_at lw_m5 164 rfl
theorem qt1418 : (Jvm.Cond.classLink "RegionHouse$Fault" (16 : Nat) "java/lang/UnsupportedOperationException") ∈ lw_tbl := lw_at lw_m5 213 rfl
theorem qt1419 : (Jvm.Cond.instantiable "java/lang/UnsupportedOperationException" (6 : Nat)) ∈ lw_tbl := lw_at lw_m5 214 rfl
theorem qt1461 : (Jvm.Cond.methodLink "RegionHouse$Fault" (18 : Nat) ({ cls := "java/lang/UnsupportedOperationException", name := "<init>", desc := "()V" } : Jvm.MethodName)) ∈ lw_tbl := lw_at lw_m6 16 rfl
theorem qt2048 : (Jvm.Cond.classLink "RegionHouse" (125 : Nat) "java/lang/IllegalArgumentException") ∈ lw_tbl := lw_at lw_m8 123 rfl
theorem qt2049 : (Jvm.Cond.instantiable "java/lang/IllegalArgumentException" (6 : Nat)) ∈ lw_tbl := lw_at lw_m8 124 rfl
theorem qt2057 : (Jvm.Cond.methodLink "RegionHouse" (127 : Nat) ({ cls := "java/lang/IllegalArgumentException", name := "<init>", desc := "()V" } : Jvm.MethodName)) ∈ lw_tbl := lw_at lw_m8 132 rfl
theorem qt2066 : (Jvm.Cond.classLink "RegionHouseLaw" (18 : Nat) "java/lang/IllegalStateException") ∈ lw_tbl := lw_at lw_m8 141 rfl
theorem qt2074 : (Jvm.Cond.classLink "RegionHouse" (119 : Nat) "java/lang/IllegalStateException") ∈ lw_tbl := lw_at lw_m8 149 rfl
theorem qt2075 : (Jvm.Cond.instantiable "java/lang/IllegalStateException" (6 : Nat)) ∈ lw_tbl := lw_at lw_m8 150 rfl
theorem qt2083 : (Jvm.Cond.methodLink "RegionHouse" (121 : Nat) ({ cls := "java/lang/IllegalStateException", name := "<init>", desc := "()V" } : Jvm.MethodName)) ∈ lw_tbl := lw_at lw_m8 158 rfl
theorem qt2168 : (Jvm.Cond.classLink "RegionHouseLaw" (24 : Nat) "java/lang/IndexOutOfBoundsException") ∈ lw_tbl := lw_at lw_m9 3 rfl
theorem qt2211 : (Jvm.Cond.classLink "RegionHouse" (122 : Nat) "java/lang/IndexOutOfBoundsException") ∈ lw_tbl := lw_at lw_m9 46 rfl
theorem qt2212 : (Jvm.Cond.instantiable "java/lang/IndexOutOfBoundsException" (6 : Nat)) ∈ lw_tbl := lw_at lw_m9 47 rfl
theorem qt2220 : (Jvm.Cond.methodLink "RegionHouse" (124 : Nat) ({ cls := "java/lang/IndexOutOfBoundsException", name := "<init>", desc := "()V" } : Jvm.MethodName)) ∈ lw_tbl := lw_at lw_m9 55 rfl
section RTT
variable {B : Nat} {sa : Nat → Nat} {xv : Nat → Value} {D : va_G} {cA : Nat → ClassId} {H0 : Heap} {L : Nat} {xs : Nat → Int32} {args : Array Value} {s : State}
set_option maxRecDepth 1000000 in
theorem ck_0 : I0.all (pv_ckq RT_X0 method_3_code (some .int)) = true := by decide +kernel
theorem mok_0 (hS : pv_ST B sa xv H0 args s) (hX : pv_XC D s) : pv_MOK (mkE B sa xv D cA H0) (PP L xs) GG 0 args s :=
  pv_mok (I := I0) hS gg_0 rfl rfl (by decide +kernel) (by decide) (hS.1 _ qt1363) (hS.1 _ qt245) (by decide) (by decide) rfl (fun j x z e1 e2 => by
      match j, e1, e2 with
      | 0, e1, e2 => cases e1; cases e2; exact pv_hok hS hX (by decide) (by decide) cl_17 qt1364
      | _ + 1, e1, e2 => cases e1) (rt_X0 hS) ck_0 (pv_no4 (by decide +kernel))
set_option maxRecDepth 1000000 in
theorem ck_1 : I1.all (pv_ckq RT_X0 method_4_code (some .int)) = true := by decide +kernel
theorem mok_1 (hS : pv_ST B sa xv H0 args s) (hX : pv_XC D s) : pv_MOK (mkE B sa xv D cA H0) (PP L xs) GG 1 args s :=
  pv_mok (I := I1) hS gg_1 rfl rfl (by decide +kernel) (by decide) (hS.1 _ qt2065) (hS.1 _ qt245) (by decide) (by decide) rfl (fun j x z e1 e2 => by
      match j, e1, e2 with
      | 0, e1, e2 => cases e1; cases e2; exact pv_hok hS hX (by decide) (by decide) cl_18 qt2066
      | _ + 1, e1, e2 => cases e1) (rt_X0 hS) ck_1 (pv_no4 (by decide +kernel))
set_option maxRecDepth 1000000 in
theorem ck_2 : I2.all (pv_ckq RT_X0 method_5_code (some .int)) = true := by decide +kernel
theorem mok_2 (hS : pv_ST B sa xv H0 args s) (hX : pv_XC D s) : pv_MOK (mkE B sa xv D cA H0) (PP L xs) GG 2 args s :=
  pv_mok (I := I2) hS gg_2 rfl rfl (by decide +kernel) (by decide) (hS.1 _ qt2167) (hS.1 _ qt245) (by decide) (by decide) rfl (fun j x z e1 e2 => by
      match j, e1, e2 with
      | 0, e1, e2 => cases e1; cases e2; exact pv_hok hS hX (by decide) (by decide) cl_18 qt2066
      | 1, e1, e2 => cases e1; cases e2; exact pv_hok hS hX (by decide) (by decide) cl_19 qt2168
      | _ + 2, e1, e2 => cases e1) (rt_X0 hS) ck_2 (pv_no4 (by decide +kernel))
set_option maxRecDepth 1000000 in
theorem ck_3 : I3.all (pv_ckq RT_X0 method_6_code (some .int)) = true := by decide +kernel
theorem mok_3 (hS : pv_ST B sa xv H0 args s) (hX : pv_XC D s) : pv_MOK (mkE B sa xv D cA H0) (PP L xs) GG 3 args s :=
  pv_mok (I := I3) hS gg_3 rfl rfl (by decide +kernel) (by decide) (hS.1 _ qt2253) (hS.1 _ qt245) (by decide) (by decide) rfl (fun j x z e1 e2 => by
      match j, e1, e2 with
      | 0, e1, e2 => cases e1; cases e2; exact pv_hok hS hX (by decide) (by decide) cl_18 qt2066
      | 1, e1, e2 => cases e1; cases e2; exact pv_hok hS hX (by decide) (by decide) cl_19 qt2168
      | _ + 2, e1, e2 => cases e1) (rt_X0 hS) ck_3 (pv_no4 (by decide +kernel))
set_option maxRecDepth 1000000 in
theorem ck_4 : I4.all (pv_ckq RT_X0 method_7_code (some .int)) = true := by decide +kernel
theorem mok_4 (hS : pv_ST B sa xv H0 args s) (hX : pv_XC D s) : pv_MOK (mkE B sa xv D cA H0) (PP L xs) GG 4 args s :=
  pv_mok (I := I4) hS gg_4 rfl rfl (by decide +kernel) (by decide) (hS.1 _ qt2266) (hS.1 _ qt245) (by decide) (by decide) rfl (fun j x z e1 e2 => by
      match j, e1, e2 with
      | 0, e1, e2 => cases e1; cases e2; exact pv_hok hS hX (by decide) (by decide) cl_18 qt2066
      | 1, e1, e2 => cases e1; cases e2; exact pv_hok hS hX (by decide) (by decide) cl_19 qt2168
      | _ + 2, e1, e2 => cases e1) (rt_X0 hS) ck_4 (pv_no4 (by decide +kernel))
set_option maxRecDepth 1000000 in
theorem ck_5 : I5.all (pv_ckq RT_X0 method_8_code (some .int)) = true := by decide +kernel
theorem mok_5 (hS : pv_ST B sa xv H0 args s) (hX : pv_XC D s) : pv_MOK (mkE B sa xv D cA H0) (PP L xs) GG 5 args s :=
  pv_mok (I := I5) hS gg_5 rfl rfl (by decide +kernel) (by decide) (hS.1 _ qt2277) (hS.1 _ qt245) (by decide) (by decide) rfl (fun j x z e1 e2 => by
      match j, e1, e2 with
      | 0, e1, e2 => cases e1; cases e2; exact pv_hok hS hX (by decide) (by decide) cl_18 qt2066
      | _ + 1, e1, e2 => cases e1) (rt_X0 hS) ck_5 (pv_no4 (by decide +kernel))
set_option maxRecDepth 1000000 in
theorem ck_6 : I6.all (pv_ckq RT_X0 method_9_code (some .int)) = true := by decide +kernel
theorem mok_6 (hS : pv_ST B sa xv H0 args s) (hX : pv_XC D s) : pv_MOK (mkE B sa xv D cA H0) (PP L xs) GG 6 args s :=
  pv_mok (I := I6) hS gg_6 rfl rfl (by decide +kernel) (by decide) (hS.1 _ qt2303) (hS.1 _ qt245) (by decide) (by decide) rfl (fun j x z e1 e2 => by
      match j, e1, e2 with
      | 0, e1, e2 => cases e1; cases e2; exact pv_hok hS hX (by decide) (by decide) cl_17 qt1364
      | 1, e1, e2 => cases e1; cases e2; exact pv_hok hS hX (by decide) (by decide) cl_18 qt2066
      | _ + 2, e1, e2 => cases e1) (rt_X0 hS) ck_6 (pv_no4 (by decide +kernel))
set_option maxRecDepth 1000000 in
theorem ck_7 : I7.all (pv_ckq RT_X0 method_10_code (some .int)) = true := by decide +kernel
theorem mok_7 (hS : pv_ST B sa xv H0 args s) (hX : pv_XC D s) : pv_MOK (mkE B sa xv D cA H0) (PP L xs) GG 7 args s :=
  pv_mok (I := I7) hS gg_7 rfl rfl (by decide +kernel) (by decide) (hS.1 _ qt2447) (hS.1 _ qt245) (by decide) (by decide) rfl (fun j x z e1 e2 => by
      match j, e1, e2 with
      | 0, e1, e2 => cases e1; cases e2; exact pv_hok hS hX (by decide) (by decide) cl_18 qt2066
      | _ + 1, e1, e2 => cases e1) (rt_X0 hS) ck_7 (pv_no4 (by decide +kernel))
set_option maxRecDepth 1000000 in
theorem ck_8_0 : (List.take 60 I8).all (pv_ckq RT_X1 prog_1_method_1_code none) = true := by decide +kernel
set_option maxRecDepth 1000000 in
theorem ck_8_1 : (List.take 60 (List.drop 60 I8)).all (pv_ckq RT_X1 prog_1_method_1_code none) = true := by decide +kernel
set_option maxRecDepth 1000000 in
theorem ck_8_2 : ((List.drop 60 (List.drop 60 I8))).all (pv_ckq RT_X1 prog_1_method_1_code none) = true := by decide +kernel
theorem ck_8 : I8.all (pv_ckq RT_X1 prog_1_method_1_code none) = true := (pv_allTD ck_8_0 (pv_allTD ck_8_1 ck_8_2))
theorem mok_8 (hS : pv_ST B sa xv H0 args s) (hX : pv_XC D s) : pv_MOK (mkE B sa xv D cA H0) (PP L xs) GG 8 args s :=
  pv_mok (I := I8) hS gg_8 rfl rfl (by decide +kernel) (by decide) (pv_cw (hS.1 _ qt280)) (hS.1 _ qt246) (by decide) (by decide) rfl (fun j x z e1 e2 => by cases e1) (rt_X1 hS) ck_8 (pv_no4 (by decide +kernel))
set_option maxRecDepth 1000000 in
theorem ck_9 : I9.all (pv_ckq RT_X1 prog_1_method_5_code (some .int)) = true := by decide +kernel
theorem mok_9 (hS : pv_ST B sa xv H0 args s) (hX : pv_XC D s) : pv_MOK (mkE B sa xv D cA H0) (PP L xs) GG 9 args s :=
  pv_mok (I := I9) hS gg_9 rfl rfl (by decide +kernel) (by decide) (pv_cw (hS.1 _ qt1170)) (hS.1 _ qt246) (by decide) (by decide) rfl (fun j x z e1 e2 => by cases e1) (rt_X1 hS) ck_9 (pv_no4 (by decide +kernel))
set_option maxRecDepth 1000000 in
theorem ck_10 : I10.all (pv_ckq RT_X1 prog_1_method_8_code (some .int)) = true := by decide +kernel
theorem mok_10 (hS : pv_ST B sa xv H0 args s) (hX : pv_XC D s) : pv_MOK (mkE B sa xv D cA H0) (PP L xs) GG 10 args s :=
  pv_mok (I := I10) hS gg_10 rfl rfl (by decide +kernel) (by decide) (pv_cw (hS.1 _ qt1187)) (hS.1 _ qt246) (by decide) (by decide) rfl (fun j x z e1 e2 => by cases e1) (rt_X1 hS) ck_10 (pv_no4 (by decide +kernel))
set_option maxRecDepth 1000000 in
theorem ck_11 : I11.all (pv_ckq RT_X1 prog_1_method_12_code (some .int)) = true := by decide +kernel
theorem mok_11 (hS : pv_ST B sa xv H0 args s) (hX : pv_XC D s) : pv_MOK (mkE B sa xv D cA H0) (PP L xs) GG 11 args s :=
  pv_mok (I := I11) hS gg_11 rfl rfl (by decide +kernel) (by decide) (pv_cw (hS.1 _ qt1199)) (hS.1 _ qt246) (by decide) (by decide) rfl (fun j x z e1 e2 => by cases e1) (rt_X1 hS) ck_11 (pv_no4 (by decide +kernel))
set_option maxRecDepth 1000000 in
theorem ck_12 : I12.all (pv_ckq RT_X1 prog_1_method_13_code (some .int)) = true := by decide +kernel
theorem mok_12 (hS : pv_ST B sa xv H0 args s) (hX : pv_XC D s) : pv_MOK (mkE B sa xv D cA H0) (PP L xs) GG 12 args s :=
  pv_mok (I := I12) hS gg_12 rfl rfl (by decide +kernel) (by decide) (pv_cw (hS.1 _ qt1207)) (hS.1 _ qt246) (by decide) (by decide) rfl (fun j x z e1 e2 => by cases e1) (rt_X1 hS) ck_12 (pv_no4 (by decide +kernel))
set_option maxRecDepth 1000000 in
theorem ck_13 : I13.all (pv_ckq RT_X1 prog_1_method_16_code (some .boolean)) = true := by decide +kernel
theorem mok_13 (hS : pv_ST B sa xv H0 args s) (hX : pv_XC D s) : pv_MOK (mkE B sa xv D cA H0) (PP L xs) GG 13 args s :=
  pv_mok (I := I13) hS gg_13 rfl rfl (by decide +kernel) (by decide) (pv_cw (hS.1 _ qt1215)) (hS.1 _ qt246) (by decide) (by decide) rfl (fun j x z e1 e2 => by cases e1) (rt_X1 hS) ck_13 (pv_no4 (by decide +kernel))
set_option maxRecDepth 1000000 in
theorem ck_14 : I14.all (pv_ckq RT_X1 prog_1_method_17_code (some .boolean)) = true := by decide +kernel
theorem mok_14 (hS : pv_ST B sa xv H0 args s) (hX : pv_XC D s) : pv_MOK (mkE B sa xv D cA H0) (PP L xs) GG 14 args s :=
  pv_mok (I := I14) hS gg_14 rfl rfl (by decide +kernel) (by decide) (pv_cw (hS.1 _ qt1240)) (hS.1 _ qt246) (by decide) (by decide) rfl (fun j x z e1 e2 => by cases e1) (rt_X1 hS) ck_14 (pv_no4 (by decide +kernel))
set_option maxRecDepth 1000000 in
theorem ck_15 : I15.all (pv_ckq RT_X1 prog_1_method_20_code (some .int)) = true := by decide +kernel
theorem mok_15 (hS : pv_ST B sa xv H0 args s) (hX : pv_XC D s) : pv_MOK (mkE B sa xv D cA H0) (PP L xs) GG 15 args s :=
  pv_mok (I := I15) hS gg_15 rfl rfl (by decide +kernel) (by decide) (pv_cw (hS.1 _ qt1248)) (hS.1 _ qt246) (by decide) (by decide) rfl (fun j x z e1 e2 => by cases e1) (rt_X1 hS) ck_15 (pv_no4 (by decide +kernel))
set_option maxRecDepth 1000000 in
theorem ck_16 : I16.all (pv_ckq RT_X1 prog_1_method_21_code (some .int)) = true := by decide +kernel
theorem mok_16 (hS : pv_ST B sa xv H0 args s) (hX : pv_XC D s) : pv_MOK (mkE B sa xv D cA H0) (PP L xs) GG 16 args s :=
  pv_mok (I := I16) hS gg_16 rfl rfl (by decide +kernel) (by decide) (pv_cw (hS.1 _ qt1256)) (hS.1 _ qt246) (by decide) (by decide) rfl (fun j x z e1 e2 => by cases e1) (rt_X1 hS) ck_16 (pv_no4 (by decide +kernel))
set_option maxRecDepth 1000000 in
theorem ck_17 : I17.all (pv_ckq RT_X1 prog_1_method_22_code (some .int)) = true := by decide +kernel
theorem mok_17 (hS : pv_ST B sa xv H0 args s) (hX : pv_XC D s) : pv_MOK (mkE B sa xv D cA H0) (PP L xs) GG 17 args s :=
  pv_mok (I := I17) hS gg_17 rfl rfl (by decide +kernel) (by decide) (pv_cw (hS.1 _ qt1272)) (hS.1 _ qt246) (by decide) (by decide) rfl (fun j x z e1 e2 => by cases e1) (rt_X1 hS) ck_17 (pv_no4 (by decide +kernel))
set_option maxRecDepth 1000000 in
theorem ck_18 : I18.all (pv_ckq RT_X1 prog_1_method_23_code (some .int)) = true := by decide +kernel
theorem mok_18 (hS : pv_ST B sa xv H0 args s) (hX : pv_XC D s) : pv_MOK (mkE B sa xv D cA H0) (PP L xs) GG 18 args s :=
  pv_mok (I := I18) hS gg_18 rfl rfl (by decide +kernel) (by decide) (pv_cw (hS.1 _ qt1280)) (hS.1 _ qt246) (by decide) (by decide) rfl (fun j x z e1 e2 => by cases e1) (rt_X1 hS) ck_18 (pv_no4 (by decide +kernel))
set_option maxRecDepth 1000000 in
theorem ck_19 : I19.all (pv_ckq RT_X1 prog_1_method_24_code (some .int)) = true := by decide +kernel
theorem mok_19 (hS : pv_ST B sa xv H0 args s) (hX : pv_XC D s) : pv_MOK (mkE B sa xv D cA H0) (PP L xs) GG 19 args s :=
  pv_mok (I := I19) hS gg_19 rfl rfl (by decide +kernel) (by decide) (pv_cw (hS.1 _ qt1284)) (hS.1 _ qt246) (by decide) (by decide) rfl (fun j x z e1 e2 => by cases e1) (rt_X1 hS) ck_19 (pv_no4 (by decide +kernel))
set_option maxRecDepth 1000000 in
theorem ck_20 : I20.all (pv_ckq RT_X1 prog_1_method_7_code (some .int)) = true := by decide +kernel
theorem mok_20 (hS : pv_ST B sa xv H0 args s) (hX : pv_XC D s) : pv_MOK (mkE B sa xv D cA H0) (PP L xs) GG 20 args s :=
  pv_mok (I := I20) hS gg_20 rfl rfl (by decide +kernel) (by decide) (hS.1 _ qt1368) (hS.1 _ qt246) (by decide) (by decide) rfl (fun j x z e1 e2 => by
      match j, e1, e2 with
      | 0, e1, e2 => cases e1; cases e2; exact pv_hok hS hX (by decide) (by decide) cl_16 qt1369
      | _ + 1, e1, e2 => cases e1) (rt_X1 hS) ck_20 (pv_no4 (by decide +kernel))
set_option maxRecDepth 1000000 in
theorem ck_21 : I21.all (pv_ckq RT_X1 prog_1_method_6_code none) = true := by decide +kernel
theorem mok_21 (hS : pv_ST B sa xv H0 args s) (hX : pv_XC D s) : pv_MOK (mkE B sa xv D cA H0) (PP L xs) GG 21 args s :=
  pv_mok (I := I21) hS gg_21 rfl rfl (by decide +kernel) (by decide) (pv_cw (hS.1 _ qt1377)) (hS.1 _ qt246) (by decide) (by decide) rfl (fun j x z e1 e2 => by cases e1) (rt_X1 hS) ck_21 (pv_no4 (by decide +kernel))
set_option maxRecDepth 1000000 in
theorem ck_22 : I22.all (pv_ckq RT_X1 prog_1_method_4_code none) = true := by decide +kernel
theorem mok_22 (hS : pv_ST B sa xv H0 args s) (hX : pv_XC D s) : pv_MOK (mkE B sa xv D cA H0) (PP L xs) GG 22 args s :=
  pv_mok (I := I22) hS gg_22 rfl rfl (by decide +kernel) (by decide) (pv_cw (hS.1 _ qt2047)) (hS.1 _ qt246) (by decide) (by decide) rfl (fun j x z e1 e2 => by cases e1) (rt_X1 hS) ck_22 (by
      intro pc idx len r1 r2 hm
      simp only [I22, List.mem_cons, List.not_mem_nil, or_false, Prod.mk.injEq, reduceCtorEq, false_and, and_false, false_or, or_false, Instr.new.injEq, Nat.reduceEqDiff] at hm
      obtain ⟨rfl, rfl, rfl, rfl, -⟩ := hm
      exact ⟨⟨by decide, by decide⟩, _, 127, cl_17, by decide +kernel, by decide +kernel, by decide +kernel, hS.1 _ qt2048, hS.1 _ qt2049, hS.1 _ qt272, hS.1 _ qt2057⟩)
set_option maxRecDepth 1000000 in
theorem ck_23 : I23.all (pv_ckq RT_X1 prog_1_method_9_code (some .int)) = true := by decide +kernel
theorem mok_23 (hS : pv_ST B sa xv H0 args s) (hX : pv_XC D s) : pv_MOK (mkE B sa xv D cA H0) (PP L xs) GG 23 args s :=
  pv_mok (I := I23) hS gg_23 rfl rfl (by decide +kernel) (by decide) (pv_cw (hS.1 _ qt2070)) (hS.1 _ qt246) (by decide) (by decide) rfl (fun j x z e1 e2 => by cases e1) (rt_X1 hS) ck_23 (pv_no4 (by decide +kernel))
set_option maxRecDepth 1000000 in
theorem ck_24 : I24.all (pv_ckq RT_X1 prog_1_method_2_code none) = true := by decide +kernel
theorem mok_24 (hS : pv_ST B sa xv H0 args s) (hX : pv_XC D s) : pv_MOK (mkE B sa xv D cA H0) (PP L xs) GG 24 args s :=
  pv_mok (I := I24) hS gg_24 rfl rfl (by decide +kernel) (by decide) (pv_cw (hS.1 _ qt2073)) (hS.1 _ qt246) (by decide) (by decide) rfl (fun j x z e1 e2 => by cases e1) (rt_X1 hS) ck_24 (by
      intro pc idx len r1 r2 hm
      simp only [I24, List.mem_cons, List.not_mem_nil, or_false, Prod.mk.injEq, reduceCtorEq, false_and, and_false, false_or, or_false, Instr.new.injEq, Nat.reduceEqDiff] at hm
      obtain ⟨rfl, rfl, rfl, rfl, -⟩ := hm
      exact ⟨⟨by decide, by decide⟩, _, 121, cl_18, by decide +kernel, by decide +kernel, by decide +kernel, hS.1 _ qt2074, hS.1 _ qt2075, hS.1 _ qt273, hS.1 _ qt2083⟩)
set_option maxRecDepth 1000000 in
theorem ck_25 : I25.all (pv_ckq RT_X1 prog_1_method_11_code (some .int)) = true := by decide +kernel
theorem mok_25 (hS : pv_ST B sa xv H0 args s) (hX : pv_XC D s) : pv_MOK (mkE B sa xv D cA H0) (PP L xs) GG 25 args s :=
  pv_mok (I := I25) hS gg_25 rfl rfl (by decide +kernel) (by decide) (pv_cw (hS.1 _ qt2203)) (hS.1 _ qt246) (by decide) (by decide) rfl (fun j x z e1 e2 => by cases e1) (rt_X1 hS) ck_25 (pv_no4 (by decide +kernel))
set_option maxRecDepth 1000000 in
theorem ck_26 : I26.all (pv_ckq RT_X1 prog_1_method_10_code none) = true := by decide +kernel
theorem mok_26 (hS : pv_ST B sa xv H0 args s) (hX : pv_XC D s) : pv_MOK (mkE B sa xv D cA H0) (PP L xs) GG 26 args s :=
  pv_mok (I := I26) hS gg_26 rfl rfl (by decide +kernel) (by decide) (pv_cw (hS.1 _ qt2207)) (hS.1 _ qt246) (by decide) (by decide) rfl (fun j x z e1 e2 => by cases e1) (rt_X1 hS) ck_26 (pv_no4 (by decide +kernel))
set_option maxRecDepth 1000000 in
theorem ck_27 : I27.all (pv_ckq RT_X1 prog_1_method_3_code none) = true := by decide +kernel
theorem mok_27 (hS : pv_ST B sa xv H0 args s) (hX : pv_XC D s) : pv_MOK (mkE B sa xv D cA H0) (PP L xs) GG 27 args s :=
  pv_mok (I := I27) hS gg_27 rfl rfl (by decide +kernel) (by decide) (pv_cw (hS.1 _ qt2210)) (hS.1 _ qt246) (by decide) (by decide) rfl (fun j x z e1 e2 => by cases e1) (rt_X1 hS) ck_27 (by
      intro pc idx len r1 r2 hm
      simp only [I27, List.mem_cons, List.not_mem_nil, or_false, Prod.mk.injEq, reduceCtorEq, false_and, and_false, false_or, or_false, Instr.new.injEq, Nat.reduceEqDiff] at hm
      obtain ⟨rfl, rfl, rfl, rfl, -⟩ := hm
      exact ⟨⟨by decide, by decide⟩, _, 124, cl_19, by decide +kernel, by decide +kernel, by decide +kernel, hS.1 _ qt2211, hS.1 _ qt2212, hS.1 _ qt274, hS.1 _ qt2220⟩)
set_option maxRecDepth 1000000 in
theorem ck_28 : I28.all (pv_ckq RT_X1 prog_1_method_14_code (some .int)) = true := by decide +kernel
theorem mok_28 (hS : pv_ST B sa xv H0 args s) (hX : pv_XC D s) : pv_MOK (mkE B sa xv D cA H0) (PP L xs) GG 28 args s :=
  pv_mok (I := I28) hS gg_28 rfl rfl (by decide +kernel) (by decide) (pv_cw (hS.1 _ qt2257)) (hS.1 _ qt246) (by decide) (by decide) rfl (fun j x z e1 e2 => by cases e1) (rt_X1 hS) ck_28 (pv_no4 (by decide +kernel))
set_option maxRecDepth 1000000 in
theorem ck_29 : I29.all (pv_ckq RT_X1 prog_1_method_15_code (some .int)) = true := by decide +kernel
theorem mok_29 (hS : pv_ST B sa xv H0 args s) (hX : pv_XC D s) : pv_MOK (mkE B sa xv D cA H0) (PP L xs) GG 29 args s :=
  pv_mok (I := I29) hS gg_29 rfl rfl (by decide +kernel) (by decide) (pv_cw (hS.1 _ qt2270)) (hS.1 _ qt246) (by decide) (by decide) rfl (fun j x z e1 e2 => by cases e1) (rt_X1 hS) ck_29 (pv_no4 (by decide +kernel))
set_option maxRecDepth 1000000 in
theorem ck_30 : I30.all (pv_ckq RT_X1 prog_1_method_18_code none) = true := by decide +kernel
theorem mok_30 (hS : pv_ST B sa xv H0 args s) (hX : pv_XC D s) : pv_MOK (mkE B sa xv D cA H0) (PP L xs) GG 30 args s :=
  pv_mok (I := I30) hS gg_30 rfl rfl (by decide +kernel) (by decide) (pv_cw (hS.1 _ qt2281)) (hS.1 _ qt246) (by decide) (by decide) rfl (fun j x z e1 e2 => by cases e1) (rt_X1 hS) ck_30 (pv_no4 (by decide +kernel))
set_option maxRecDepth 1000000 in
theorem ck_31 : I31.all (pv_ckq RT_X1 prog_1_method_19_code (some .int)) = true := by decide +kernel
theorem mok_31 (hS : pv_ST B sa xv H0 args s) (hX : pv_XC D s) : pv_MOK (mkE B sa xv D cA H0) (PP L xs) GG 31 args s :=
  pv_mok (I := I31) hS gg_31 rfl rfl (by decide +kernel) (by decide) (pv_cw (hS.1 _ qt2307)) (hS.1 _ qt246) (by decide) (by decide) rfl (fun j x z e1 e2 => by cases e1) (rt_X1 hS) ck_31 (pv_no4 (by decide +kernel))
set_option maxRecDepth 1000000 in
theorem ck_32 : I32.all (pv_ckq RT_X1 prog_1_method_25_code (some .int)) = true := by decide +kernel
theorem mok_32 (hS : pv_ST B sa xv H0 args s) (hX : pv_XC D s) : pv_MOK (mkE B sa xv D cA H0) (PP L xs) GG 32 args s :=
  pv_mok (I := I32) hS gg_32 rfl rfl (by decide +kernel) (by decide) (pv_cw (hS.1 _ qt2451)) (hS.1 _ qt246) (by decide) (by decide) rfl (fun j x z e1 e2 => by cases e1) (rt_X1 hS) ck_32 (pv_no4 (by decide +kernel))
set_option maxRecDepth 1000000 in
theorem ck_33 : I33.all (pv_ckq RT_X2 prog_11_method_1_code none) = true := by decide +kernel
theorem mok_33 (hS : pv_ST B sa xv H0 args s) (hX : pv_XC D s) : pv_MOK (mkE B sa xv D cA H0) (PP L xs) GG 33 args s :=
  pv_mok (I := I33) hS gg_33 rfl rfl (by decide +kernel) (by decide) (pv_cw (hS.1 _ qt288)) (hS.1 _ qt247) (by decide) (by decide) rfl (fun j x z e1 e2 => by cases e1) (rt_X2 hS) ck_33 (pv_no4 (by decide +kernel))
set_option maxRecDepth 1000000 in
theorem ck_34 : I34.all (pv_ckq RT_X2 prog_11_method_6_code none) = true := by decide +kernel
theorem mok_34 (hS : pv_ST B sa xv H0 args s) (hX : pv_XC D s) : pv_MOK (mkE B sa xv D cA H0) (PP L xs) GG 34 args s :=
  pv_mok (I := I34) hS gg_34 rfl rfl (by decide +kernel) (by decide) (pv_cw (hS.1 _ qt1175)) (hS.1 _ qt247) (by decide) (by decide) rfl (fun j x z e1 e2 => by cases e1) (rt_X2 hS) ck_34 (pv_no4 (by decide +kernel))
set_option maxRecDepth 1000000 in
theorem ck_35 : I35.all (pv_ckq RT_X2 prog_11_method_5_code (some .boolean)) = true := by decide +kernel
theorem mok_35 (hS : pv_ST B sa xv H0 args s) (hX : pv_XC D s) : pv_MOK (mkE B sa xv D cA H0) (PP L xs) GG 35 args s :=
  pv_mok (I := I35) hS gg_35 rfl rfl (by decide +kernel) (by decide) (pv_cw (hS.1 _ qt1179)) (hS.1 _ qt247) (by decide) (by decide) rfl (fun j x z e1 e2 => by cases e1) (rt_X2 hS) ck_35 (pv_no4 (by decide +kernel))
set_option maxRecDepth 1000000 in
theorem ck_36 : I36.all (pv_ckq RT_X2 prog_11_method_2_code (some .int)) = true := by decide +kernel
theorem mok_36 (hS : pv_ST B sa xv H0 args s) (hX : pv_XC D s) : pv_MOK (mkE B sa xv D cA H0) (PP L xs) GG 36 args s :=
  pv_mok (I := I36) hS gg_36 rfl rfl (by decide +kernel) (by decide) (pv_cw (hS.1 _ qt1183)) (hS.1 _ qt247) (by decide) (by decide) rfl (fun j x z e1 e2 => by cases e1) (rt_X2 hS) ck_36 (pv_no4 (by decide +kernel))
set_option maxRecDepth 1000000 in
theorem ck_37 : I37.all (pv_ckq RT_X2 prog_11_method_3_code (some .int)) = true := by decide +kernel
theorem mok_37 (hS : pv_ST B sa xv H0 args s) (hX : pv_XC D s) : pv_MOK (mkE B sa xv D cA H0) (PP L xs) GG 37 args s :=
  pv_mok (I := I37) hS gg_37 rfl rfl (by decide +kernel) (by decide) (pv_cw (hS.1 _ qt1203)) (hS.1 _ qt247) (by decide) (by decide) rfl (fun j x z e1 e2 => by cases e1) (rt_X2 hS) ck_37 (pv_no4 (by decide +kernel))
set_option maxRecDepth 1000000 in
theorem ck_38 : I38.all (pv_ckq RT_X2 prog_11_method_4_code none) = true := by decide +kernel
theorem mok_38 (hS : pv_ST B sa xv H0 args s) (hX : pv_XC D s) : pv_MOK (mkE B sa xv D cA H0) (PP L xs) GG 38 args s :=
  pv_mok (I := I38) hS gg_38 rfl rfl (by decide +kernel) (by decide) (pv_cw (hS.1 _ qt1211)) (hS.1 _ qt247) (by decide) (by decide) rfl (fun j x z e1 e2 => by cases e1) (rt_X2 hS) ck_38 (pv_no4 (by decide +kernel))
set_option maxRecDepth 1000000 in
theorem ck_39 : I39.all (pv_ckq RT_X2 prog_11_method_7_code none) = true := by decide +kernel
theorem mok_39 (hS : pv_ST B sa xv H0 args s) (hX : pv_XC D s) : pv_MOK (mkE B sa xv D cA H0) (PP L xs) GG 39 args s :=
  pv_mok (I := I39) hS gg_39 rfl rfl (by decide +kernel) (by decide) (pv_cw (hS.1 _ qt2126)) (hS.1 _ qt247) (by decide) (by decide) rfl (fun j x z e1 e2 => by cases e1) (rt_X2 hS) ck_39 (pv_no4 (by decide +kernel))
set_option maxRecDepth 1000000 in
theorem ck_40 : I40.all (pv_ckq RT_X2 prog_11_method_8_code none) = true := by decide +kernel
theorem mok_40 (hS : pv_ST B sa xv H0 args s) (hX : pv_XC D s) : pv_MOK (mkE B sa xv D cA H0) (PP L xs) GG 40 args s :=
  pv_mok (I := I40) hS gg_40 rfl rfl (by decide +kernel) (by decide) (pv_cw (hS.1 _ qt2137)) (hS.1 _ qt247) (by decide) (by decide) rfl (fun j x z e1 e2 => by cases e1) (rt_X2 hS) ck_40 (pv_no4 (by decide +kernel))
set_option maxRecDepth 1000000 in
theorem ck_41 : I41.all (pv_ckq RT_X3 prog_3_method_1_code none) = true := by decide +kernel
theorem mok_41 (hS : pv_ST B sa xv H0 args s) (hX : pv_XC D s) : pv_MOK (mkE B sa xv D cA H0) (PP L xs) GG 41 args s :=
  pv_mok (I := I41) hS gg_41 rfl rfl (by decide +kernel) (by decide) (pv_cw (hS.1 _ qt302)) (hS.1 _ qt248) (by decide) (by decide) rfl (fun j x z e1 e2 => by cases e1) (rt_X3 hS) ck_41 (pv_no4 (by decide +kernel))
set_option maxRecDepth 1000000 in
theorem ck_42 : I42.all (pv_ckq RT_X3 prog_3_method_2_code (some .int)) = true := by decide +kernel
theorem mok_42 (hS : pv_ST B sa xv H0 args s) (hX : pv_XC D s) : pv_MOK (mkE B sa xv D cA H0) (PP L xs) GG 42 args s :=
  pv_mok (I := I42) hS gg_42 rfl rfl (by decide +kernel) (by decide) (pv_cw (hS.1 _ qt1191)) (hS.1 _ qt248) (by decide) (by decide) rfl (fun j x z e1 e2 => by cases e1) (rt_X3 hS) ck_42 (pv_no4 (by decide +kernel))
set_option maxRecDepth 1000000 in
theorem ck_43 : I43.all (pv_ckq RT_X3 prog_3_method_3_code (some .int)) = true := by decide +kernel
theorem mok_43 (hS : pv_ST B sa xv H0 args s) (hX : pv_XC D s) : pv_MOK (mkE B sa xv D cA H0) (PP L xs) GG 43 args s :=
  pv_mok (I := I43) hS gg_43 rfl rfl (by decide +kernel) (by decide) (pv_cw (hS.1 _ qt1195)) (hS.1 _ qt248) (by decide) (by decide) rfl (fun j x z e1 e2 => by cases e1) (rt_X3 hS) ck_43 (pv_no4 (by decide +kernel))
set_option maxRecDepth 1000000 in
theorem ck_44 : I44.all (pv_ckq RT_X3 prog_3_method_4_code none) = true := by decide +kernel
theorem mok_44 (hS : pv_ST B sa xv H0 args s) (hX : pv_XC D s) : pv_MOK (mkE B sa xv D cA H0) (PP L xs) GG 44 args s :=
  pv_mok (I := I44) hS gg_44 rfl rfl (by decide +kernel) (by decide) (pv_cw (hS.1 _ qt1373)) (hS.1 _ qt248) (by decide) (by decide) rfl (fun j x z e1 e2 => by cases e1) (rt_X3 hS) ck_44 (pv_no4 (by decide +kernel))
set_option maxRecDepth 1000000 in
theorem ck_45 : I45.all (pv_ckq RT_X3 prog_3_method_5_code none) = true := by decide +kernel
theorem mok_45 (hS : pv_ST B sa xv H0 args s) (hX : pv_XC D s) : pv_MOK (mkE B sa xv D cA H0) (PP L xs) GG 45 args s :=
  pv_mok (I := I45) hS gg_45 rfl rfl (by decide +kernel) (by decide) (pv_cw (hS.1 _ qt1417)) (hS.1 _ qt248) (by decide) (by decide) rfl (fun j x z e1 e2 => by cases e1) (rt_X3 hS) ck_45 (by
      intro pc idx len r1 r2 hm
      simp only [I45, List.mem_cons, List.not_mem_nil, or_false, Prod.mk.injEq, reduceCtorEq, false_and, and_false, false_or, or_false, Instr.new.injEq, Nat.reduceEqDiff] at hm
      obtain ⟨rfl, rfl, rfl, rfl, -⟩ := hm
      exact ⟨⟨by decide, by decide⟩, _, 18, cl_16, by decide +kernel, by decide +kernel, by decide +kernel, hS.1 _ qt1418, hS.1 _ qt1419, hS.1 _ qt268, hS.1 _ qt1461⟩)
set_option maxRecDepth 1000000 in
theorem ck_46_0 : (List.take 60 I46).all (pv_ckq RT_X4 prog_4_method_1_code none) = true := by decide +kernel
set_option maxRecDepth 1000000 in
theorem ck_46_1 : (List.take 60 (List.drop 60 I46)).all (pv_ckq RT_X4 prog_4_method_1_code none) = true := by decide +kernel
set_option maxRecDepth 1000000 in
theorem ck_46_2 : ((List.drop 60 (List.drop 60 I46))).all (pv_ckq RT_X4 prog_4_method_1_code none) = true := by decide +kernel
theorem ck_46 : I46.all (pv_ckq RT_X4 prog_4_method_1_code none) = true := (pv_allTD ck_46_0 (pv_allTD ck_46_1 ck_46_2))
theorem mok_46 (hS : pv_ST B sa xv H0 args s) (hX : pv_XC D s) : pv_MOK (mkE B sa xv D cA H0) (PP L xs) GG 46 args s :=
  pv_mok (I := I46) hS gg_46 rfl rfl (by decide +kernel) (by decide) (pv_cw (hS.1 _ qt315)) (hS.1 _ qt249) (by decide) (by decide) rfl (fun j x z e1 e2 => by cases e1) (rt_X4 hS) ck_46 (pv_no4 (by decide +kernel))
set_option maxRecDepth 1000000 in
theorem ck_47_0 : (List.take 60 I47).all (pv_ckq RT_X4 prog_4_method_17_code (some .int)) = true := by decide +kernel
set_option maxRecDepth 1000000 in
theorem ck_47_1 : ((List.drop 60 I47)).all (pv_ckq RT_X4 prog_4_method_17_code (some .int)) = true := by decide +kernel
theorem ck_47 : I47.all (pv_ckq RT_X4 prog_4_method_17_code (some .int)) = true := (pv_allTD ck_47_0 ck_47_1)
theorem mok_47 (hS : pv_ST B sa xv H0 args s) (hX : pv_XC D s) : pv_MOK (mkE B sa xv D cA H0) (PP L xs) GG 47 args s :=
  pv_mok (I := I47) hS gg_47 rfl rfl (by decide +kernel) (by decide) (pv_cw (hS.1 _ qt1381)) (hS.1 _ qt249) (by decide) (by decide) rfl (fun j x z e1 e2 => by cases e1) (rt_X4 hS) ck_47 (pv_no4 (by decide +kernel))
set_option maxRecDepth 1000000 in
theorem ck_48 : I48.all (pv_ckq RT_X4 prog_4_method_16_code (some .int)) = true := by decide +kernel
theorem mok_48 (hS : pv_ST B sa xv H0 args s) (hX : pv_XC D s) : pv_MOK (mkE B sa xv D cA H0) (PP L xs) GG 48 args s :=
  pv_mok (I := I48) hS gg_48 rfl rfl (by decide +kernel) (by decide) (pv_cw (hS.1 _ qt1387)) (hS.1 _ qt249) (by decide) (by decide) rfl (fun j x z e1 e2 => by cases e1) (rt_X4 hS) ck_48 (pv_no4 (by decide +kernel))
set_option maxRecDepth 1000000 in
theorem ck_49 : I49.all (pv_ckq RT_X4 prog_4_method_9_code (some .int)) = true := by decide +kernel
theorem mok_49 (hS : pv_ST B sa xv H0 args s) (hX : pv_XC D s) : pv_MOK (mkE B sa xv D cA H0) (PP L xs) GG 49 args s :=
  pv_mok (I := I49) hS gg_49 rfl rfl (by decide +kernel) (by decide) (pv_cw (hS.1 _ qt1391)) (hS.1 _ qt249) (by decide) (by decide) rfl (fun j x z e1 e2 => by cases e1) (rt_X4 hS) ck_49 (pv_no4 (by decide +kernel))
set_option maxRecDepth 1000000 in
theorem ck_50 : I50.all (pv_ckq RT_X4 prog_4_method_10_code (some .boolean)) = true := by decide +kernel
theorem mok_50 (hS : pv_ST B sa xv H0 args s) (hX : pv_XC D s) : pv_MOK (mkE B sa xv D cA H0) (PP L xs) GG 50 args s :=
  pv_mok (I := I50) hS gg_50 rfl rfl (by decide +kernel) (by decide) (pv_cw (hS.1 _ qt1394)) (hS.1 _ qt249) (by decide) (by decide) rfl (fun j x z e1 e2 => by cases e1) (rt_X4 hS) ck_50 (pv_no4 (by decide +kernel))
set_option maxRecDepth 1000000 in
theorem ck_51 : I51.all (pv_ckq RT_X4 prog_4_method_13_code (some .int)) = true := by decide +kernel
theorem mok_51 (hS : pv_ST B sa xv H0 args s) (hX : pv_XC D s) : pv_MOK (mkE B sa xv D cA H0) (PP L xs) GG 51 args s :=
  pv_mok (I := I51) hS gg_51 rfl rfl (by decide +kernel) (by decide) (pv_cw (hS.1 _ qt1398)) (hS.1 _ qt249) (by decide) (by decide) rfl (fun j x z e1 e2 => by cases e1) (rt_X4 hS) ck_51 (pv_no4 (by decide +kernel))
set_option maxRecDepth 1000000 in
theorem ck_52 : I52.all (pv_ckq RT_X4 prog_4_method_11_code (some .boolean)) = true := by decide +kernel
theorem mok_52 (hS : pv_ST B sa xv H0 args s) (hX : pv_XC D s) : pv_MOK (mkE B sa xv D cA H0) (PP L xs) GG 52 args s :=
  pv_mok (I := I52) hS gg_52 rfl rfl (by decide +kernel) (by decide) (pv_cw (hS.1 _ qt1401)) (hS.1 _ qt249) (by decide) (by decide) rfl (fun j x z e1 e2 => by cases e1) (rt_X4 hS) ck_52 (pv_no4 (by decide +kernel))
set_option maxRecDepth 1000000 in
theorem ck_53 : I53.all (pv_ckq RT_X4 prog_4_method_12_code none) = true := by decide +kernel
theorem mok_53 (hS : pv_ST B sa xv H0 args s) (hX : pv_XC D s) : pv_MOK (mkE B sa xv D cA H0) (PP L xs) GG 53 args s :=
  pv_mok (I := I53) hS gg_53 rfl rfl (by decide +kernel) (by decide) (pv_cw (hS.1 _ qt1405)) (hS.1 _ qt249) (by decide) (by decide) rfl (fun j x z e1 e2 => by cases e1) (rt_X4 hS) ck_53 (pv_no4 (by decide +kernel))
set_option maxRecDepth 1000000 in
theorem ck_54 : I54.all (pv_ckq RT_X4 prog_4_method_14_code (some .int)) = true := by decide +kernel
theorem mok_54 (hS : pv_ST B sa xv H0 args s) (hX : pv_XC D s) : pv_MOK (mkE B sa xv D cA H0) (PP L xs) GG 54 args s :=
  pv_mok (I := I54) hS gg_54 rfl rfl (by decide +kernel) (by decide) (pv_cw (hS.1 _ qt1409)) (hS.1 _ qt249) (by decide) (by decide) rfl (fun j x z e1 e2 => by cases e1) (rt_X4 hS) ck_54 (pv_no4 (by decide +kernel))
set_option maxRecDepth 1000000 in
theorem ck_55_0 : (List.take 60 I55).all (pv_ckq RT_X4 prog_4_method_15_code (some .int)) = true := by decide +kernel
set_option maxRecDepth 1000000 in
theorem ck_55_1 : ((List.drop 60 I55)).all (pv_ckq RT_X4 prog_4_method_15_code (some .int)) = true := by decide +kernel
theorem ck_55 : I55.all (pv_ckq RT_X4 prog_4_method_15_code (some .int)) = true := (pv_allTD ck_55_0 ck_55_1)
theorem mok_55 (hS : pv_ST B sa xv H0 args s) (hX : pv_XC D s) : pv_MOK (mkE B sa xv D cA H0) (PP L xs) GG 55 args s :=
  pv_mok (I := I55) hS gg_55 rfl rfl (by decide +kernel) (by decide) (pv_cw (hS.1 _ qt1413)) (hS.1 _ qt249) (by decide) (by decide) rfl (fun j x z e1 e2 => by cases e1) (rt_X4 hS) ck_55 (pv_no4 (by decide +kernel))
set_option maxRecDepth 1000000 in
theorem ck_56 : I56.all (pv_ckq RT_X4 prog_4_method_7_code (some .boolean)) = true := by decide +kernel
theorem mok_56 (hS : pv_ST B sa xv H0 args s) (hX : pv_XC D s) : pv_MOK (mkE B sa xv D cA H0) (PP L xs) GG 56 args s :=
  pv_mok (I := I56) hS gg_56 rfl rfl (by decide +kernel) (by decide) (pv_cw (hS.1 _ qt1499)) (hS.1 _ qt249) (by decide) (by decide) rfl (fun j x z e1 e2 => by cases e1) (rt_X4 hS) ck_56 (pv_no4 (by decide +kernel))
set_option maxRecDepth 1000000 in
theorem ck_57 : I57.all (pv_ckq RT_X4 prog_4_method_3_code (some .int)) = true := by decide +kernel
theorem mok_57 (hS : pv_ST B sa xv H0 args s) (hX : pv_XC D s) : pv_MOK (mkE B sa xv D cA H0) (PP L xs) GG 57 args s :=
  pv_mok (I := I57) hS gg_57 rfl rfl (by decide +kernel) (by decide) (pv_cw (hS.1 _ qt1507)) (hS.1 _ qt249) (by decide) (by decide) rfl (fun j x z e1 e2 => by cases e1) (rt_X4 hS) ck_57 (pv_no4 (by decide +kernel))
set_option maxRecDepth 1000000 in
theorem ck_58 : I58.all (pv_ckq RT_X4 prog_4_method_6_code (some .int)) = true := by decide +kernel
theorem mok_58 (hS : pv_ST B sa xv H0 args s) (hX : pv_XC D s) : pv_MOK (mkE B sa xv D cA H0) (PP L xs) GG 58 args s :=
  pv_mok (I := I58) hS gg_58 rfl rfl (by decide +kernel) (by decide) (pv_cw (hS.1 _ qt1515)) (hS.1 _ qt249) (by decide) (by decide) rfl (fun j x z e1 e2 => by cases e1) (rt_X4 hS) ck_58 (pv_no4 (by decide +kernel))
set_option maxRecDepth 1000000 in
theorem ck_59 : I59.all (pv_ckq RT_X4 prog_4_method_5_code (some .long)) = true := by decide +kernel
theorem mok_59 (hS : pv_ST B sa xv H0 args s) (hX : pv_XC D s) : pv_MOK (mkE B sa xv D cA H0) (PP L xs) GG 59 args s :=
  pv_mok (I := I59) hS gg_59 rfl rfl (by decide +kernel) (by decide) (pv_cw (hS.1 _ qt1520)) (hS.1 _ qt249) (by decide) (by decide) rfl (fun j x z e1 e2 => by cases e1) (rt_X4 hS) ck_59 (pv_no4 (by decide +kernel))
set_option maxRecDepth 1000000 in
theorem ck_60 : I60.all (pv_ckq RT_X4 prog_4_method_8_code (some .boolean)) = true := by decide +kernel
theorem mok_60 (hS : pv_ST B sa xv H0 args s) (hX : pv_XC D s) : pv_MOK (mkE B sa xv D cA H0) (PP L xs) GG 60 args s :=
  pv_mok (I := I60) hS gg_60 rfl rfl (by decide +kernel) (by decide) (pv_cw (hS.1 _ qt1540)) (hS.1 _ qt249) (by decide) (by decide) rfl (fun j x z e1 e2 => by cases e1) (rt_X4 hS) ck_60 (pv_no4 (by decide +kernel))
set_option maxRecDepth 1000000 in
theorem ck_61 : I61.all (pv_ckq RT_X4 prog_4_method_4_code (some .int)) = true := by decide +kernel
theorem mok_61 (hS : pv_ST B sa xv H0 args s) (hX : pv_XC D s) : pv_MOK (mkE B sa xv D cA H0) (PP L xs) GG 61 args s :=
  pv_mok (I := I61) hS gg_61 rfl rfl (by decide +kernel) (by decide) (pv_cw (hS.1 _ qt1644)) (hS.1 _ qt249) (by decide) (by decide) rfl (fun j x z e1 e2 => by cases e1) (rt_X4 hS) ck_61 (pv_no4 (by decide +kernel))
set_option maxRecDepth 1000000 in
theorem ck_62 : I62.all (pv_ckq RT_X4 prog_4_method_2_code (some .int)) = true := by decide +kernel
theorem mok_62 (hS : pv_ST B sa xv H0 args s) (hX : pv_XC D s) : pv_MOK (mkE B sa xv D cA H0) (PP L xs) GG 62 args s :=
  pv_mok (I := I62) hS gg_62 rfl rfl (by decide +kernel) (by decide) (pv_cw (hS.1 _ qt2097)) (hS.1 _ qt249) (by decide) (by decide) rfl (fun j x z e1 e2 => by cases e1) (rt_X4 hS) ck_62 (pv_no4 (by decide +kernel))
set_option maxRecDepth 1000000 in
theorem ck_63 : I63.all (pv_ckq RT_X4 prog_4_method_18_code none) = true := by decide +kernel
theorem mok_63 (hS : pv_ST B sa xv H0 args s) (hX : pv_XC D s) : pv_MOK (mkE B sa xv D cA H0) (PP L xs) GG 63 args s :=
  pv_mok (I := I63) hS gg_63 rfl rfl (by decide +kernel) (by decide) (pv_cw (hS.1 _ qt2144)) (hS.1 _ qt249) (by decide) (by decide) rfl (fun j x z e1 e2 => by cases e1) (rt_X4 hS) ck_63 (pv_no4 (by decide +kernel))
set_option maxRecDepth 1000000 in
theorem ck_64_0 : (List.take 60 I64).all (pv_ckq RT_X5 prog_8_method_1_code none) = true := by decide +kernel
set_option maxRecDepth 1000000 in
theorem ck_64_1 : (List.take 60 (List.drop 60 I64)).all (pv_ckq RT_X5 prog_8_method_1_code none) = true := by decide +kernel
set_option maxRecDepth 1000000 in
theorem ck_64_2 : ((List.drop 60 (List.drop 60 I64))).all (pv_ckq RT_X5 prog_8_method_1_code none) = true := by decide +kernel
theorem ck_64 : I64.all (pv_ckq RT_X5 prog_8_method_1_code none) = true := (pv_allTD ck_64_0 (pv_allTD ck_64_1 ck_64_2))
theorem mok_64 (hS : pv_ST B sa xv H0 args s) (hX : pv_XC D s) : pv_MOK (mkE B sa xv D cA H0) (PP L xs) GG 64 args s :=
  pv_mok (I := I64) hS gg_64 rfl rfl (by decide +kernel) (by decide) (pv_cw (hS.1 _ qt417)) (hS.1 _ qt254) (by decide) (by decide) rfl (fun j x z e1 e2 => by cases e1) (rt_X5 hS) ck_64 (pv_no4 (by decide +kernel))
set_option maxRecDepth 1000000 in
theorem ck_65 : I65.all (pv_ckq RT_X5 prog_8_method_2_code none) = true := by decide +kernel
theorem mok_65 (hS : pv_ST B sa xv H0 args s) (hX : pv_XC D s) : pv_MOK (mkE B sa xv D cA H0) (PP L xs) GG 65 args s :=
  pv_mok (I := I65) hS gg_65 rfl rfl (by decide +kernel) (by decide) (pv_cw (hS.1 _ qt1491)) (hS.1 _ qt254) (by decide) (by decide) rfl (fun j x z e1 e2 => by cases e1) (rt_X5 hS) ck_65 (pv_no4 (by decide +kernel))
set_option maxRecDepth 1000000 in
theorem ck_66 : I66.all (pv_ckq RT_X5 prog_8_method_9_code (some .int)) = true := by decide +kernel
theorem mok_66 (hS : pv_ST B sa xv H0 args s) (hX : pv_XC D s) : pv_MOK (mkE B sa xv D cA H0) (PP L xs) GG 66 args s :=
  pv_mok (I := I66) hS gg_66 rfl rfl (by decide +kernel) (by decide) (pv_cw (hS.1 _ qt1524)) (hS.1 _ qt254) (by decide) (by decide) rfl (fun j x z e1 e2 => by cases e1) (rt_X5 hS) ck_66 (pv_no4 (by decide +kernel))
set_option maxRecDepth 1000000 in
theorem ck_67 : I67.all (pv_ckq RT_X5 prog_8_method_8_code (some .int)) = true := by decide +kernel
theorem mok_67 (hS : pv_ST B sa xv H0 args s) (hX : pv_XC D s) : pv_MOK (mkE B sa xv D cA H0) (PP L xs) GG 67 args s :=
  pv_mok (I := I67) hS gg_67 rfl rfl (by decide +kernel) (by decide) (pv_cw (hS.1 _ qt1552)) (hS.1 _ qt254) (by decide) (by decide) rfl (fun j x z e1 e2 => by cases e1) (rt_X5 hS) ck_67 (pv_no4 (by decide +kernel))
set_option maxRecDepth 1000000 in
theorem ck_68 : I68.all (pv_ckq RT_X5 prog_8_method_6_code (some .int)) = true := by decide +kernel
theorem mok_68 (hS : pv_ST B sa xv H0 args s) (hX : pv_XC D s) : pv_MOK (mkE B sa xv D cA H0) (PP L xs) GG 68 args s :=
  pv_mok (I := I68) hS gg_68 rfl rfl (by decide +kernel) (by decide) (pv_cw (hS.1 _ qt1563)) (hS.1 _ qt254) (by decide) (by decide) rfl (fun j x z e1 e2 => by cases e1) (rt_X5 hS) ck_68 (pv_no4 (by decide +kernel))
set_option maxRecDepth 1000000 in
theorem ck_69 : I69.all (pv_ckq RT_X5 prog_8_method_7_code (some .int)) = true := by decide +kernel
theorem mok_69 (hS : pv_ST B sa xv H0 args s) (hX : pv_XC D s) : pv_MOK (mkE B sa xv D cA H0) (PP L xs) GG 69 args s :=
  pv_mok (I := I69) hS gg_69 rfl rfl (by decide +kernel) (by decide) (pv_cw (hS.1 _ qt1579)) (hS.1 _ qt254) (by decide) (by decide) rfl (fun j x z e1 e2 => by cases e1) (rt_X5 hS) ck_69 (pv_no4 (by decide +kernel))
set_option maxRecDepth 1000000 in
theorem ck_70 : I70.all (pv_ckq RT_X5 prog_8_method_3_code (some .int)) = true := by decide +kernel
theorem mok_70 (hS : pv_ST B sa xv H0 args s) (hX : pv_XC D s) : pv_MOK (mkE B sa xv D cA H0) (PP L xs) GG 70 args s :=
  pv_mok (I := I70) hS gg_70 rfl rfl (by decide +kernel) (by decide) (pv_cw (hS.1 _ qt1583)) (hS.1 _ qt254) (by decide) (by decide) rfl (fun j x z e1 e2 => by cases e1) (rt_X5 hS) ck_70 (pv_no4 (by decide +kernel))
set_option maxRecDepth 1000000 in
theorem ck_71 : I71.all (pv_ckq RT_X5 prog_8_method_4_code none) = true := by decide +kernel
theorem mok_71 (hS : pv_ST B sa xv H0 args s) (hX : pv_XC D s) : pv_MOK (mkE B sa xv D cA H0) (PP L xs) GG 71 args s :=
  pv_mok (I := I71) hS gg_71 rfl rfl (by decide +kernel) (by decide) (pv_cw (hS.1 _ qt1587)) (hS.1 _ qt254) (by decide) (by decide) rfl (fun j x z e1 e2 => by cases e1) (rt_X5 hS) ck_71 (pv_no4 (by decide +kernel))
set_option maxRecDepth 1000000 in
theorem ck_72 : I72.all (pv_ckq RT_X5 prog_8_method_5_code none) = true := by decide +kernel
theorem mok_72 (hS : pv_ST B sa xv H0 args s) (hX : pv_XC D s) : pv_MOK (mkE B sa xv D cA H0) (PP L xs) GG 72 args s :=
  pv_mok (I := I72) hS gg_72 rfl rfl (by decide +kernel) (by decide) (pv_cw (hS.1 _ qt1591)) (hS.1 _ qt254) (by decide) (by decide) rfl (fun j x z e1 e2 => by cases e1) (rt_X5 hS) ck_72 (pv_no4 (by decide +kernel))
set_option maxRecDepth 1000000 in
theorem ck_73 : I73.all (pv_ckq RT_X5 prog_8_method_11_code none) = true := by decide +kernel
theorem mok_73 (hS : pv_ST B sa xv H0 args s) (hX : pv_XC D s) : pv_MOK (mkE B sa xv D cA H0) (PP L xs) GG 73 args s :=
  pv_mok (I := I73) hS gg_73 rfl rfl (by decide +kernel) (by decide) (pv_cw (hS.1 _ qt1656)) (hS.1 _ qt254) (by decide) (by decide) rfl (fun j x z e1 e2 => by cases e1) (rt_X5 hS) ck_73 (pv_no4 (by decide +kernel))
set_option maxRecDepth 1000000 in
theorem ck_74 : I74.all (pv_ckq RT_X5 prog_8_method_10_code (some .int)) = true := by decide +kernel
theorem mok_74 (hS : pv_ST B sa xv H0 args s) (hX : pv_XC D s) : pv_MOK (mkE B sa xv D cA H0) (PP L xs) GG 74 args s :=
  pv_mok (I := I74) hS gg_74 rfl rfl (by decide +kernel) (by decide) (pv_cw (hS.1 _ qt1660)) (hS.1 _ qt254) (by decide) (by decide) rfl (fun j x z e1 e2 => by cases e1) (rt_X5 hS) ck_74 (pv_no4 (by decide +kernel))
set_option maxRecDepth 1000000 in
theorem ck_75 : I75.all (pv_ckq RT_X5 prog_8_method_12_code none) = true := by decide +kernel
theorem mok_75 (hS : pv_ST B sa xv H0 args s) (hX : pv_XC D s) : pv_MOK (mkE B sa xv D cA H0) (PP L xs) GG 75 args s :=
  pv_mok (I := I75) hS gg_75 rfl rfl (by decide +kernel) (by decide) (pv_cw (hS.1 _ qt1664)) (hS.1 _ qt254) (by decide) (by decide) rfl (fun j x z e1 e2 => by cases e1) (rt_X5 hS) ck_75 (pv_no4 (by decide +kernel))
set_option maxRecDepth 1000000 in
theorem ck_76 : I76.all (pv_ckq RT_X5 prog_8_method_13_code (some .int)) = true := by decide +kernel
theorem mok_76 (hS : pv_ST B sa xv H0 args s) (hX : pv_XC D s) : pv_MOK (mkE B sa xv D cA H0) (PP L xs) GG 76 args s :=
  pv_mok (I := I76) hS gg_76 rfl rfl (by decide +kernel) (by decide) (pv_cw (hS.1 _ qt1980)) (hS.1 _ qt254) (by decide) (by decide) rfl (fun j x z e1 e2 => by cases e1) (rt_X5 hS) ck_76 (pv_no4 (by decide +kernel))
set_option maxRecDepth 1000000 in
theorem ck_77 : I77.all (pv_ckq RT_X6 prog_13_method_1_code none) = true := by decide +kernel
theorem mok_77 (hS : pv_ST B sa xv H0 args s) (hX : pv_XC D s) : pv_MOK (mkE B sa xv D cA H0) (PP L xs) GG 77 args s :=
  pv_mok (I := I77) hS gg_77 rfl rfl (by decide +kernel) (by decide) (pv_cw (hS.1 _ qt637)) (hS.1 _ qt255) (by decide) (by decide) rfl (fun j x z e1 e2 => by cases e1) (rt_X6 hS) ck_77 (pv_no4 (by decide +kernel))
set_option maxRecDepth 1000000 in
theorem ck_78 : I78.all (pv_ckq RT_X6 prog_13_method_2_code none) = true := by decide +kernel
theorem mok_78 (hS : pv_ST B sa xv H0 args s) (hX : pv_XC D s) : pv_MOK (mkE B sa xv D cA H0) (PP L xs) GG 78 args s :=
  pv_mok (I := I78) hS gg_78 rfl rfl (by decide +kernel) (by decide) (pv_cw (hS.1 _ qt1707)) (hS.1 _ qt255) (by decide) (by decide) rfl (fun j x z e1 e2 => by cases e1) (rt_X6 hS) ck_78 (pv_no4 (by decide +kernel))
set_option maxRecDepth 1000000 in
theorem ck_79 : I79.all (pv_ckq RT_X6 prog_13_method_4_code (some .int)) = true := by decide +kernel
theorem mok_79 (hS : pv_ST B sa xv H0 args s) (hX : pv_XC D s) : pv_MOK (mkE B sa xv D cA H0) (PP L xs) GG 79 args s :=
  pv_mok (I := I79) hS gg_79 rfl rfl (by decide +kernel) (by decide) (pv_cw (hS.1 _ qt1711)) (hS.1 _ qt255) (by decide) (by decide) rfl (fun j x z e1 e2 => by cases e1) (rt_X6 hS) ck_79 (pv_no4 (by decide +kernel))
set_option maxRecDepth 1000000 in
theorem ck_80 : I80.all (pv_ckq RT_X6 prog_13_method_3_code none) = true := by decide +kernel
theorem mok_80 (hS : pv_ST B sa xv H0 args s) (hX : pv_XC D s) : pv_MOK (mkE B sa xv D cA H0) (PP L xs) GG 80 args s :=
  pv_mok (I := I80) hS gg_80 rfl rfl (by decide +kernel) (by decide) (pv_cw (hS.1 _ qt1715)) (hS.1 _ qt255) (by decide) (by decide) rfl (fun j x z e1 e2 => by cases e1) (rt_X6 hS) ck_80 (pv_no4 (by decide +kernel))
set_option maxRecDepth 1000000 in
theorem ck_81 : I81.all (pv_ckq RT_X6 prog_13_method_5_code (some .int)) = true := by decide +kernel
theorem mok_81 (hS : pv_ST B sa xv H0 args s) (hX : pv_XC D s) : pv_MOK (mkE B sa xv D cA H0) (PP L xs) GG 81 args s :=
  pv_mok (I := I81) hS gg_81 rfl rfl (by decide +kernel) (by decide) (pv_cw (hS.1 _ qt1728)) (hS.1 _ qt255) (by decide) (by decide) rfl (fun j x z e1 e2 => by cases e1) (rt_X6 hS) ck_81 (pv_no4 (by decide +kernel))
set_option maxRecDepth 1000000 in
theorem ck_82 : I82.all (pv_ckq RT_X6 prog_13_method_29_code none) = true := by decide +kernel
theorem mok_82 (hS : pv_ST B sa xv H0 args s) (hX : pv_XC D s) : pv_MOK (mkE B sa xv D cA H0) (PP L xs) GG 82 args s :=
  pv_mok (I := I82) hS gg_82 rfl rfl (by decide +kernel) (by decide) (pv_cw (hS.1 _ qt1736)) (hS.1 _ qt255) (by decide) (by decide) rfl (fun j x z e1 e2 => by cases e1) (rt_X6 hS) ck_82 (pv_no4 (by decide +kernel))
set_option maxRecDepth 1000000 in
theorem ck_83 : I83.all (pv_ckq RT_X6 prog_13_method_30_code (some .int)) = true := by decide +kernel
theorem mok_83 (hS : pv_ST B sa xv H0 args s) (hX : pv_XC D s) : pv_MOK (mkE B sa xv D cA H0) (PP L xs) GG 83 args s :=
  pv_mok (I := I83) hS gg_83 rfl rfl (by decide +kernel) (by decide) (pv_cw (hS.1 _ qt1744)) (hS.1 _ qt255) (by decide) (by decide) rfl (fun j x z e1 e2 => by cases e1) (rt_X6 hS) ck_83 (pv_no4 (by decide +kernel))
set_option maxRecDepth 1000000 in
theorem ck_84 : I84.all (pv_ckq RT_X6 prog_13_method_7_code (some .int)) = true := by decide +kernel
theorem mok_84 (hS : pv_ST B sa xv H0 args s) (hX : pv_XC D s) : pv_MOK (mkE B sa xv D cA H0) (PP L xs) GG 84 args s :=
  pv_mok (I := I84) hS gg_84 rfl rfl (by decide +kernel) (by decide) (pv_cw (hS.1 _ qt1748)) (hS.1 _ qt255) (by decide) (by decide) rfl (fun j x z e1 e2 => by cases e1) (rt_X6 hS) ck_84 (pv_no4 (by decide +kernel))
end RTT
