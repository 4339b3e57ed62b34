section RTT
variable {B : Nat} {sa : Nat → Nat} {xv : Nat → Value} {D : va_G} {cA : Nat → ClassId} {H0 : Heap} {L : Nat} {xs : Nat → Int32} {args : Array Value} {s : State}
def RT_X0_0 : List (Instr × Nat × Nat × Nat) := [(.invokevirtual 7, 20, 1, 1), (.invokevirtual 15, 23, 1, 1), (.invokevirtual 20, 25, 2, 1), (.invokevirtual 26, 28, 3, 1), (.invokevirtual 30, 29, 4, 1), (.invokevirtual 34, 30, 1, 1), (.invokevirtual 37, 31, 2, 1), (.invokevirtual 40, 32, 1, 1), (.new 8, 1, 0, 0), (.invokespecial 43, 8, 1, 0), (.new 44, 15, 0, 0), (.invokespecial 46, 281, 1, 0), (.newarray .long, 0, 0, 0), (.ldc2_w 47, 4294967295, 0, 0), (.invokevirtual 49, 9, 2, 1), (.invokevirtual 53, 283, 2, 15), (.invokestatic 54, 0, 2, 0), (.invokevirtual 59, 284, 1, 15), (.invokevirtual 60, 282, 1, 15), (.invokevirtual 63, 10, 2, 1), (.invokevirtual 66, 371, 2, 15), (.invokestatic 67, 1, 2, 0), (.invokevirtual 69, 372, 1, 15), (.invokestatic 70, 2, 3, 0), (.invokevirtual 73, 382, 2, 15), (.invokevirtual 74, 11, 2, 1), (.invokevirtual 77, 388, 2, 15), (.invokevirtual 78, 12, 1, 1), (.invokevirtual 81, 389, 1, 15), (.invokestatic 82, 3, 4, 0), (.invokevirtual 85, 390, 3, 15), (.invokestatic 86, 4, 5, 0), (.invokevirtual 89, 391, 4, 15), (.invokevirtual 90, 13, 3, 1), (.invokevirtual 94, 392, 3, 15), (.invokevirtual 95, 14, 2, 1), (.invokevirtual 99, 393, 2, 15), (.invokestatic 100, 5, 1, 0), (.invokevirtual 103, 394, 1, 15), (.invokestatic 104, 6, 3, 0)]
set_option maxRecDepth 100000 in
set_option maxHeartbeats 4000000 in
theorem rt_X0_0 (hS : pv_ST B sa xv H0 args s) : ∀ q ∈ RT_X0_0, pv_EK (mkE B sa xv D cA H0) (PP L xs) GG "RegionHouseLaw" q args s := by
  skip
  refine List.forall_mem_cons.mpr ⟨(ek_iv hS gg_20 rfl (by decide) cl_1 (by decide) qt1365 qt1366 qt1367), ?_⟩
  refine List.forall_mem_cons.mpr ⟨(ek_iv hS gg_23 rfl (by decide) cl_1 (by decide) qt2067 qt2068 qt2069), ?_⟩
  refine List.forall_mem_cons.mpr ⟨(ek_iv hS gg_25 rfl (by decide) cl_1 (by decide) qt2200 qt2201 qt2202), ?_⟩
  refine List.forall_mem_cons.mpr ⟨(ek_iv hS gg_28 rfl (by decide) cl_1 (by decide) qt2254 qt2255 qt2256), ?_⟩
  refine List.forall_mem_cons.mpr ⟨(ek_iv hS gg_29 rfl (by decide) cl_1 (by decide) qt2267 qt2268 qt2269), ?_⟩
  refine List.forall_mem_cons.mpr ⟨(ek_iv hS gg_30 rfl (by decide) cl_1 (by decide) qt2278 qt2279 qt2280), ?_⟩
  refine List.forall_mem_cons.mpr ⟨(ek_iv hS gg_31 rfl (by decide) cl_1 (by decide) qt2304 qt2305 qt2306), ?_⟩
  refine List.forall_mem_cons.mpr ⟨(ek_iv hS gg_32 rfl (by decide) cl_1 (by decide) qt2448 qt2449 qt2450), ?_⟩
  refine List.forall_mem_cons.mpr ⟨(ek_new hS cl_1 (by decide) nfl_1 qt276 qt277 qt246), ?_⟩
  refine List.forall_mem_cons.mpr ⟨(ek_ii hS gg_8 rfl (by decide) rfl qt279 qt278), ?_⟩
  refine List.forall_mem_cons.mpr ⟨(ek_new hS cl_15 (by decide) nfl_15 qt2471 qt2472 qt264), ?_⟩
  refine List.forall_mem_cons.mpr ⟨(ek_ii hS gg_281 rfl (by decide) rfl qt2474 qt2473), ?_⟩
  refine List.forall_mem_cons.mpr ⟨(ek_newa hS qt411), ?_⟩
  refine List.forall_mem_cons.mpr ⟨(ek_ldl hS qt3617), ?_⟩
  refine List.forall_mem_cons.mpr ⟨(ek_iv hS gg_9 rfl (by decide) cl_1 (by decide) qt1167 qt1168 qt1169), ?_⟩
  refine List.forall_mem_cons.mpr ⟨(ek_iv hS gg_283 rfl (by decide) cl_15 (by decide) qt3002 qt3003 qt3004), ?_⟩
  refine List.forall_mem_cons.mpr ⟨(ek_is hS gg_0 rfl (by decide) qt1361 qt1362), ?_⟩
  refine List.forall_mem_cons.mpr ⟨(ek_iv hS gg_284 rfl (by decide) cl_15 (by decide) qt3007 qt3008 qt3009), ?_⟩
  refine List.forall_mem_cons.mpr ⟨(ek_iv hS gg_282 rfl (by decide) cl_15 (by decide) qt2998 qt2999 qt3000), ?_⟩
  refine List.forall_mem_cons.mpr ⟨(ek_iv hS gg_10 rfl (by decide) cl_1 (by decide) qt1184 qt1185 qt1186), ?_⟩
  refine List.forall_mem_cons.mpr ⟨(ek_iv hS gg_371 rfl (by decide) cl_15 (by decide) qt3367 qt3368 qt3369), ?_⟩
  refine List.forall_mem_cons.mpr ⟨(ek_is hS gg_1 rfl (by decide) qt2063 qt2064), ?_⟩
  refine List.forall_mem_cons.mpr ⟨(ek_iv hS gg_372 rfl (by decide) cl_15 (by decide) qt3371 qt3372 qt3373), ?_⟩
  refine List.forall_mem_cons.mpr ⟨(ek_is hS gg_2 rfl (by decide) qt2165 qt2166), ?_⟩
  refine List.forall_mem_cons.mpr ⟨(ek_iv hS gg_382 rfl (by decide) cl_15 (by decide) qt3414 qt3415 qt3416), ?_⟩
  refine List.forall_mem_cons.mpr ⟨(ek_iv hS gg_11 rfl (by decide) cl_1 (by decide) qt1196 qt1197 qt1198), ?_⟩
  refine List.forall_mem_cons.mpr ⟨(ek_iv hS gg_388 rfl (by decide) cl_15 (by decide) qt3443 qt3444 qt3445), ?_⟩
  refine List.forall_mem_cons.mpr ⟨(ek_iv hS gg_12 rfl (by decide) cl_1 (by decide) qt1204 qt1205 qt1206), ?_⟩
  refine List.forall_mem_cons.mpr ⟨(ek_iv hS gg_389 rfl (by decide) cl_15 (by decide) qt3447 qt3448 qt3449), ?_⟩
  refine List.forall_mem_cons.mpr ⟨(ek_is hS gg_3 rfl (by decide) qt2251 qt2252), ?_⟩
  refine List.forall_mem_cons.mpr ⟨(ek_iv hS gg_390 rfl (by decide) cl_15 (by decide) qt3451 qt3452 qt3453), ?_⟩
  refine List.forall_mem_cons.mpr ⟨(ek_is hS gg_4 rfl (by decide) qt2264 qt2265), ?_⟩
  refine List.forall_mem_cons.mpr ⟨(ek_iv hS gg_391 rfl (by decide) cl_15 (by decide) qt3455 qt3456 qt3457), ?_⟩
  refine List.forall_mem_cons.mpr ⟨(ek_iv hS gg_13 rfl (by decide) cl_1 (by decide) qt1212 qt1213 qt1214), ?_⟩
  refine List.forall_mem_cons.mpr ⟨(ek_iv hS gg_392 rfl (by decide) cl_15 (by decide) qt3459 qt3460 qt3461), ?_⟩
  refine List.forall_mem_cons.mpr ⟨(ek_iv hS gg_14 rfl (by decide) cl_1 (by decide) qt1237 qt1238 qt1239), ?_⟩
  refine List.forall_mem_cons.mpr ⟨(ek_iv hS gg_393 rfl (by decide) cl_15 (by decide) qt3463 qt3464 qt3465), ?_⟩
  refine List.forall_mem_cons.mpr ⟨(ek_is hS gg_5 rfl (by decide) qt2275 qt2276), ?_⟩
  refine List.forall_mem_cons.mpr ⟨(ek_iv hS gg_394 rfl (by decide) cl_15 (by decide) qt3467 qt3468 qt3469), ?_⟩
  refine List.forall_mem_cons.mpr ⟨(ek_is hS gg_6 rfl (by decide) qt2301 qt2302), ?_⟩
  exact fun q h => absurd h List.not_mem_nil
def RT_X0_1 : List (Instr × Nat × Nat × Nat) := [(.invokevirtual 106, 398, 2, 15), (.invokevirtual 107, 15, 1, 1), (.invokevirtual 110, 422, 1, 15), (.invokevirtual 111, 16, 2, 1), (.invokevirtual 114, 423, 2, 15), (.invokevirtual 115, 17, 3, 1), (.invokevirtual 118, 424, 3, 15), (.invokevirtual 119, 18, 1, 1), (.invokevirtual 122, 425, 1, 15), (.invokevirtual 123, 19, 1, 1), (.invokevirtual 126, 426, 1, 15), (.invokestatic 127, 7, 2, 0), (.invokevirtual 129, 427, 1, 15)]
set_option maxRecDepth 100000 in
set_option maxHeartbeats 4000000 in
theorem rt_X0_1 (hS : pv_ST B sa xv H0 args s) : ∀ q ∈ RT_X0_1, pv_EK (mkE B sa xv D cA H0) (PP L xs) GG "RegionHouseLaw" q args s := by
  skip
  refine List.forall_mem_cons.mpr ⟨(ek_iv hS gg_398 rfl (by decide) cl_15 (by decide) qt3483 qt3484 qt3485), ?_⟩
  refine List.forall_mem_cons.mpr ⟨(ek_iv hS gg_15 rfl (by decide) cl_1 (by decide) qt1245 qt1246 qt1247), ?_⟩
  refine List.forall_mem_cons.mpr ⟨(ek_iv hS gg_422 rfl (by decide) cl_15 (by decide) qt3580 qt3581 qt3582), ?_⟩
  refine List.forall_mem_cons.mpr ⟨(ek_iv hS gg_16 rfl (by decide) cl_1 (by decide) qt1253 qt1254 qt1255), ?_⟩
  refine List.forall_mem_cons.mpr ⟨(ek_iv hS gg_423 rfl (by decide) cl_15 (by decide) qt3584 qt3585 qt3586), ?_⟩
  refine List.forall_mem_cons.mpr ⟨(ek_iv hS gg_17 rfl (by decide) cl_1 (by decide) qt1269 qt1270 qt1271), ?_⟩
  refine List.forall_mem_cons.mpr ⟨(ek_iv hS gg_424 rfl (by decide) cl_15 (by decide) qt3588 qt3589 qt3590), ?_⟩
  refine List.forall_mem_cons.mpr ⟨(ek_iv hS gg_18 rfl (by decide) cl_1 (by decide) qt1277 qt1278 qt1279), ?_⟩
  refine List.forall_mem_cons.mpr ⟨(ek_iv hS gg_425 rfl (by decide) cl_15 (by decide) qt3592 qt3593 qt3594), ?_⟩
  refine List.forall_mem_cons.mpr ⟨(ek_iv hS gg_19 rfl (by decide) cl_1 (by decide) qt1281 qt1282 qt1283), ?_⟩
  refine List.forall_mem_cons.mpr ⟨(ek_iv hS gg_426 rfl (by decide) cl_15 (by decide) qt3596 qt3597 qt3598), ?_⟩
  refine List.forall_mem_cons.mpr ⟨(ek_is hS gg_7 rfl (by decide) qt2445 qt2446), ?_⟩
  refine List.forall_mem_cons.mpr ⟨(ek_iv hS gg_427 rfl (by decide) cl_15 (by decide) qt3600 qt3601 qt3602), ?_⟩
  exact fun q h => absurd h List.not_mem_nil
def RT_X0 : List (Instr × Nat × Nat × Nat) := RT_X0_0 ++ (RT_X0_1)
theorem rt_X0 (hS : pv_ST B sa xv H0 args s) : ∀ q ∈ RT_X0, pv_EK (mkE B sa xv D cA H0) (PP L xs) GG "RegionHouseLaw" q args s := List.forall_mem_append.mpr ⟨rt_X0_0 hS, rt_X0_1 hS⟩
def RT_X1_0 : List (Instr × Nat × Nat × Nat) := [(.invokespecial 1, 0, 0, 2), (.new 7, 2, 0, 0), (.invokespecial 9, 33, 2, 0), (.putfield 12, 1, 0, 0), (.putfield 18, 1, 1, 0), (.new 21, 3, 0, 0), (.invokespecial 23, 41, 1, 1), (.putfield 24, 1, 2, 0), (.new 28, 4, 0, 0), (.invokespecial 30, 46, 1, 0), (.putfield 31, 1, 3, 0), (.new 35, 5, 0, 0), (.invokespecial 37, 64, 1, 1), (.putfield 38, 1, 4, 0), (.new 42, 6, 0, 0), (.invokespecial 44, 77, 1, 1), (.putfield 45, 1, 5, 0), (.new 49, 7, 0, 0), (.getfield 31, 1, 3, 0), (.getfield 38, 1, 4, 0), (.getfield 24, 1, 2, 0), (.invokespecial 51, 107, 4, 0), (.putfield 54, 1, 6, 0), (.new 58, 8, 0, 0), (.getfield 45, 1, 5, 0), (.invokespecial 60, 140, 5, 0), (.putfield 63, 1, 7, 0), (.new 67, 9, 0, 0), (.getfield 63, 1, 7, 0), (.invokespecial 69, 160, 6, 0), (.putfield 72, 1, 8, 0), (.new 76, 10, 0, 0), (.getfield 72, 1, 8, 0), (.getfield 18, 1, 1, 0), (.invokespecial 78, 182, 7, 0), (.putfield 81, 1, 9, 0), (.new 85, 11, 0, 0), (.invokespecial 87, 195, 4, 0), (.putfield 90, 1, 10, 0), (.new 94, 12, 0, 0)]
set_option maxRecDepth 100000 in
set_option maxHeartbeats 4000000 in
theorem rt_X1_0 (hS : pv_ST B sa xv H0 args s) : ∀ q ∈ RT_X1_0, pv_EK (mkE B sa xv D cA H0) (PP L xs) GG "RegionHouse" q args s := by
  skip
  refine List.forall_mem_cons.mpr ⟨(ek_obj hS qt281 qt282 qt283), ?_⟩
  refine List.forall_mem_cons.mpr ⟨(ek_new hS cl_2 (by decide) nfl_2 qt284 qt285 qt247), ?_⟩
  refine List.forall_mem_cons.mpr ⟨(ek_ii hS gg_33 rfl (by decide) rfl qt287 qt286), ?_⟩
  refine List.forall_mem_cons.mpr ⟨(ek_putf hS cl_1 (by decide) (by decide) rfl rfl qt1121), ?_⟩
  refine List.forall_mem_cons.mpr ⟨(ek_putf hS cl_1 (by decide) (by decide) rfl rfl qt1122), ?_⟩
  refine List.forall_mem_cons.mpr ⟨(ek_new hS cl_3 (by decide) nfl_3 qt298 qt299 qt248), ?_⟩
  refine List.forall_mem_cons.mpr ⟨(ek_iin hS gg_41 rfl (by decide) rfl qt301 qt300), ?_⟩
  refine List.forall_mem_cons.mpr ⟨(ek_putf hS cl_1 (by decide) (by decide) rfl rfl qt1123), ?_⟩
  refine List.forall_mem_cons.mpr ⟨(ek_new hS cl_4 (by decide) nfl_4 qt311 qt312 qt249), ?_⟩
  refine List.forall_mem_cons.mpr ⟨(ek_ii hS gg_46 rfl (by decide) rfl qt314 qt313), ?_⟩
  refine List.forall_mem_cons.mpr ⟨(ek_putf hS cl_1 (by decide) (by decide) rfl rfl qt1124), ?_⟩
  refine List.forall_mem_cons.mpr ⟨(ek_new hS cl_5 (by decide) nfl_5 qt413 qt414 qt254), ?_⟩
  refine List.forall_mem_cons.mpr ⟨(ek_iin hS gg_64 rfl (by decide) rfl qt416 qt415), ?_⟩
  refine List.forall_mem_cons.mpr ⟨(ek_putf hS cl_1 (by decide) (by decide) rfl rfl qt1125), ?_⟩
  refine List.forall_mem_cons.mpr ⟨(ek_new hS cl_6 (by decide) nfl_6 qt633 qt634 qt255), ?_⟩
  refine List.forall_mem_cons.mpr ⟨(ek_iin hS gg_77 rfl (by decide) rfl qt636 qt635), ?_⟩
  refine List.forall_mem_cons.mpr ⟨(ek_putf hS cl_1 (by decide) (by decide) rfl rfl qt1126), ?_⟩
  refine List.forall_mem_cons.mpr ⟨(ek_new hS cl_7 (by decide) nfl_7 qt696 qt697 qt256), ?_⟩
  refine List.forall_mem_cons.mpr ⟨(ek_get hS cl_1 (by decide) (by decide) rfl qt1124), ?_⟩
  refine List.forall_mem_cons.mpr ⟨(ek_get hS cl_1 (by decide) (by decide) rfl qt1125), ?_⟩
  refine List.forall_mem_cons.mpr ⟨(ek_get hS cl_1 (by decide) (by decide) rfl qt1123), ?_⟩
  refine List.forall_mem_cons.mpr ⟨(ek_ii hS gg_107 rfl (by decide) rfl qt699 qt698), ?_⟩
  refine List.forall_mem_cons.mpr ⟨(ek_putf hS cl_1 (by decide) (by decide) rfl rfl qt1127), ?_⟩
  refine List.forall_mem_cons.mpr ⟨(ek_new hS cl_8 (by decide) nfl_8 qt742 qt743 qt257), ?_⟩
  refine List.forall_mem_cons.mpr ⟨(ek_get hS cl_1 (by decide) (by decide) rfl qt1126), ?_⟩
  refine List.forall_mem_cons.mpr ⟨(ek_ii hS gg_140 rfl (by decide) rfl qt745 qt744), ?_⟩
  refine List.forall_mem_cons.mpr ⟨(ek_putf hS cl_1 (by decide) (by decide) rfl rfl qt1128), ?_⟩
  refine List.forall_mem_cons.mpr ⟨(ek_new hS cl_9 (by decide) nfl_9 qt791 qt792 qt258), ?_⟩
  refine List.forall_mem_cons.mpr ⟨(ek_get hS cl_1 (by decide) (by decide) rfl qt1128), ?_⟩
  refine List.forall_mem_cons.mpr ⟨(ek_ii hS gg_160 rfl (by decide) rfl qt794 qt793), ?_⟩
  refine List.forall_mem_cons.mpr ⟨(ek_putf hS cl_1 (by decide) (by decide) rfl rfl qt1129), ?_⟩
  refine List.forall_mem_cons.mpr ⟨(ek_new hS cl_10 (by decide) nfl_10 qt859 qt860 qt259), ?_⟩
  refine List.forall_mem_cons.mpr ⟨(ek_get hS cl_1 (by decide) (by decide) rfl qt1129), ?_⟩
  refine List.forall_mem_cons.mpr ⟨(ek_get hS cl_1 (by decide) (by decide) rfl qt1122), ?_⟩
  refine List.forall_mem_cons.mpr ⟨(ek_ii hS gg_182 rfl (by decide) rfl qt862 qt861), ?_⟩
  refine List.forall_mem_cons.mpr ⟨(ek_putf hS cl_1 (by decide) (by decide) rfl rfl qt1130), ?_⟩
  refine List.forall_mem_cons.mpr ⟨(ek_new hS cl_11 (by decide) nfl_11 qt911 qt912 qt260), ?_⟩
  refine List.forall_mem_cons.mpr ⟨(ek_ii hS gg_195 rfl (by decide) rfl qt914 qt913), ?_⟩
  refine List.forall_mem_cons.mpr ⟨(ek_putf hS cl_1 (by decide) (by decide) rfl rfl qt1131), ?_⟩
  refine List.forall_mem_cons.mpr ⟨(ek_new hS cl_12 (by decide) nfl_12 qt951 qt952 qt261), ?_⟩
  exact fun q h => absurd h List.not_mem_nil
def RT_X1_1 : List (Instr × Nat × Nat × Nat) := [(.invokespecial 96, 215, 1, 1), (.putfield 97, 1, 11, 0), (.new 101, 13, 0, 0), (.getfield 97, 1, 11, 0), (.getfield 90, 1, 10, 0), (.invokespecial 103, 225, 3, 0), (.putfield 106, 1, 12, 0), (.new 110, 14, 0, 0), (.getfield 106, 1, 12, 0), (.invokespecial 112, 250, 6, 0), (.putfield 115, 1, 13, 0), (.ldc2_w 128, 255, 0, 0), (.getfield 12, 1, 0, 0), (.invokevirtual 130, 34, 2, 2), (.invokevirtual 133, 36, 1, 2), (.invokevirtual 179, 42, 1, 3), (.invokevirtual 182, 43, 1, 3), (.invokevirtual 200, 37, 2, 2), (.invokevirtual 174, 38, 1, 2), (.getfield 115, 1, 13, 0), (.invokevirtual 163, 251, 1, 14), (.invokevirtual 243, 228, 3, 13), (.invokevirtual 245, 253, 2, 14), (.invokevirtual 251, 254, 1, 14), (.invokevirtual 257, 255, 2, 14), (.invokevirtual 258, 230, 3, 13), (.invokevirtual 260, 256, 1, 14), (.invokevirtual 166, 44, 1, 3), (.putfield 167, 1, 14, 0), (.invokevirtual 171, 21, 1, 1), (.getfield 167, 1, 14, 0), (.invokestatic 175, 22, 1, 0), (.getfield 152, 5, 38, 1), (.invokevirtual 137, 47, 2, 4), (.invokevirtual 141, 45, 3, 3), (.getfield 54, 1, 6, 0), (.invokevirtual 145, 108, 1, 7), (.invokevirtual 148, 141, 1, 8), (.invokevirtual 151, 162, 1, 9), (.invokevirtual 156, 142, 2, 8)]
set_option maxRecDepth 100000 in
set_option maxHeartbeats 4000000 in
theorem rt_X1_1 (hS : pv_ST B sa xv H0 args s) : ∀ q ∈ RT_X1_1, pv_EK (mkE B sa xv D cA H0) (PP L xs) GG "RegionHouse" q args s := by
  skip
  refine List.forall_mem_cons.mpr ⟨(ek_iin hS gg_215 rfl (by decide) rfl qt954 qt953), ?_⟩
  refine List.forall_mem_cons.mpr ⟨(ek_putf hS cl_1 (by decide) (by decide) rfl rfl qt1132), ?_⟩
  refine List.forall_mem_cons.mpr ⟨(ek_new hS cl_13 (by decide) nfl_13 qt967 qt968 qt262), ?_⟩
  refine List.forall_mem_cons.mpr ⟨(ek_get hS cl_1 (by decide) (by decide) rfl qt1132), ?_⟩
  refine List.forall_mem_cons.mpr ⟨(ek_get hS cl_1 (by decide) (by decide) rfl qt1131), ?_⟩
  refine List.forall_mem_cons.mpr ⟨(ek_ii hS gg_225 rfl (by decide) rfl qt970 qt969), ?_⟩
  refine List.forall_mem_cons.mpr ⟨(ek_putf hS cl_1 (by decide) (by decide) rfl rfl qt1133), ?_⟩
  refine List.forall_mem_cons.mpr ⟨(ek_new hS cl_14 (by decide) nfl_14 qt1060 qt1061 qt263), ?_⟩
  refine List.forall_mem_cons.mpr ⟨(ek_get hS cl_1 (by decide) (by decide) rfl qt1133), ?_⟩
  refine List.forall_mem_cons.mpr ⟨(ek_ii hS gg_250 rfl (by decide) rfl qt1063 qt1062), ?_⟩
  refine List.forall_mem_cons.mpr ⟨(ek_putf hS cl_1 (by decide) (by decide) rfl rfl qt1134), ?_⟩
  refine List.forall_mem_cons.mpr ⟨(ek_ldl hS qt1171), ?_⟩
  refine List.forall_mem_cons.mpr ⟨(ek_get hS cl_1 (by decide) (by decide) rfl qt1121), ?_⟩
  refine List.forall_mem_cons.mpr ⟨(ek_iv hS gg_34 rfl (by decide) cl_2 (by decide) qt1172 qt1173 qt1174), ?_⟩
  refine List.forall_mem_cons.mpr ⟨(ek_iv hS gg_36 rfl (by decide) cl_2 (by decide) qt1180 qt1181 qt1182), ?_⟩
  refine List.forall_mem_cons.mpr ⟨(ek_iv hS gg_42 rfl (by decide) cl_3 (by decide) qt1188 qt1189 qt1190), ?_⟩
  refine List.forall_mem_cons.mpr ⟨(ek_iv hS gg_43 rfl (by decide) cl_3 (by decide) qt1192 qt1193 qt1194), ?_⟩
  refine List.forall_mem_cons.mpr ⟨(ek_iv hS gg_37 rfl (by decide) cl_2 (by decide) qt1200 qt1201 qt1202), ?_⟩
  refine List.forall_mem_cons.mpr ⟨(ek_iv hS gg_38 rfl (by decide) cl_2 (by decide) qt1208 qt1209 qt1210), ?_⟩
  refine List.forall_mem_cons.mpr ⟨(ek_get hS cl_1 (by decide) (by decide) rfl qt1134), ?_⟩
  refine List.forall_mem_cons.mpr ⟨(ek_iv hS gg_251 rfl (by decide) cl_14 (by decide) qt1216 qt1217 qt1218), ?_⟩
  refine List.forall_mem_cons.mpr ⟨(ek_iv hS gg_228 rfl (by decide) cl_13 (by decide) qt1233 qt1234 qt1235), ?_⟩
  refine List.forall_mem_cons.mpr ⟨(ek_iv hS gg_253 rfl (by decide) cl_14 (by decide) qt1241 qt1242 qt1243), ?_⟩
  refine List.forall_mem_cons.mpr ⟨(ek_iv hS gg_254 rfl (by decide) cl_14 (by decide) qt1249 qt1250 qt1251), ?_⟩
  refine List.forall_mem_cons.mpr ⟨(ek_iv hS gg_255 rfl (by decide) cl_14 (by decide) qt1257 qt1258 qt1259), ?_⟩
  refine List.forall_mem_cons.mpr ⟨(ek_iv hS gg_230 rfl (by decide) cl_13 (by decide) qt1273 qt1274 qt1275), ?_⟩
  refine List.forall_mem_cons.mpr ⟨(ek_iv hS gg_256 rfl (by decide) cl_14 (by decide) qt1285 qt1286 qt1287), ?_⟩
  refine List.forall_mem_cons.mpr ⟨(ek_iv hS gg_44 rfl (by decide) cl_3 (by decide) qt1370 qt1371 qt1372), ?_⟩
  refine List.forall_mem_cons.mpr ⟨(ek_put hS cl_1 (by decide) (by decide) rfl rfl qt1135), ?_⟩
  refine List.forall_mem_cons.mpr ⟨(ek_iv hS gg_21 rfl (by decide) cl_1 (by decide) qt1374 qt1376 (lw_all_tbl qs9)), ?_⟩
  refine List.forall_mem_cons.mpr ⟨(ek_get hS cl_1 (by decide) (by decide) rfl qt1135), ?_⟩
  refine List.forall_mem_cons.mpr ⟨(ek_is hS gg_22 rfl (by decide) qt2045 qt2046), ?_⟩
  refine List.forall_mem_cons.mpr ⟨(ek_getn hS cl_5 (by decide) (by decide) rfl qt550), ?_⟩
  refine List.forall_mem_cons.mpr ⟨(ek_iv hS gg_47 rfl (by decide) cl_4 (by decide) qt1378 qt1379 qt1380), ?_⟩
  refine List.forall_mem_cons.mpr ⟨(ek_iv hS gg_45 rfl (by decide) cl_3 (by decide) qt1414 qt1415 qt1416), ?_⟩
  refine List.forall_mem_cons.mpr ⟨(ek_get hS cl_1 (by decide) (by decide) rfl qt1127), ?_⟩
  refine List.forall_mem_cons.mpr ⟨(ek_iv hS gg_108 rfl (by decide) cl_7 (by decide) qt1484 qt1485 qt1486), ?_⟩
  refine List.forall_mem_cons.mpr ⟨(ek_iv hS gg_141 rfl (by decide) cl_8 (by decide) qt1700 qt1701 qt1702), ?_⟩
  refine List.forall_mem_cons.mpr ⟨(ek_iv hS gg_162 rfl (by decide) cl_9 (by decide) qt1717 qt1718 qt1719), ?_⟩
  refine List.forall_mem_cons.mpr ⟨(ek_iv hS gg_142 rfl (by decide) cl_8 (by decide) qt1721 qt1722 qt1723), ?_⟩
  exact fun q h => absurd h List.not_mem_nil
def RT_X1_2 : List (Instr × Nat × Nat × Nat) := [(.invokevirtual 159, 163, 2, 9), (.invokevirtual 160, 197, 1, 11), (.new 125, 17, 0, 4), (.invokestatic 185, 24, 1, 0), (.getfield 81, 1, 9, 0), (.invokevirtual 188, 183, 1, 10), (.new 119, 18, 0, 4), (.invokevirtual 194, 26, 2, 1), (.invokevirtual 197, 192, 2, 10), (.invokestatic 191, 27, 1, 0), (.new 122, 19, 0, 4), (.getfield 204, 5, 32, 1), (.invokevirtual 208, 154, 2, 8), (.invokevirtual 210, 179, 2, 9), (.getfield 213, 5, 35, 1), (.getfield 216, 5, 34, 1), (.getfield 219, 5, 37, 1), (.getfield 222, 5, 36, 1), (.invokevirtual 225, 181, 3, 9), (.invokevirtual 229, 168, 3, 9), (.invokevirtual 232, 89, 2, 6), (.invokevirtual 234, 174, 3, 9), (.getfield 237, 5, 1, 1), (.invokevirtual 240, 58, 2, 4), (.invokevirtual 248, 258, 1, 14), (.invokevirtual 254, 260, 2, 14), (.invokevirtual 263, 278, 2, 14)]
set_option maxRecDepth 100000 in
set_option maxHeartbeats 4000000 in
theorem rt_X1_2 (hS : pv_ST B sa xv H0 args s) : ∀ q ∈ RT_X1_2, pv_EK (mkE B sa xv D cA H0) (PP L xs) GG "RegionHouse" q args s := by
  skip
  refine List.forall_mem_cons.mpr ⟨(ek_iv hS gg_163 rfl (by decide) cl_9 (by decide) qt1838 qt1839 qt1840), ?_⟩
  refine List.forall_mem_cons.mpr ⟨(ek_iv hS gg_197 rfl (by decide) cl_11 (by decide) qt1973 qt1974 qt1975), ?_⟩
  refine List.forall_mem_cons.mpr ⟨(ek_new4), ?_⟩
  refine List.forall_mem_cons.mpr ⟨(ek_is hS gg_24 rfl (by decide) qt2071 qt2072), ?_⟩
  refine List.forall_mem_cons.mpr ⟨(ek_get hS cl_1 (by decide) (by decide) rfl qt1130), ?_⟩
  refine List.forall_mem_cons.mpr ⟨(ek_iv hS gg_183 rfl (by decide) cl_10 (by decide) qt2089 qt2090 qt2091), ?_⟩
  refine List.forall_mem_cons.mpr ⟨(ek_new4), ?_⟩
  refine List.forall_mem_cons.mpr ⟨(ek_iv hS gg_26 rfl (by decide) cl_1 (by decide) qt2204 qt2206 (lw_all_tbl qs97)), ?_⟩
  refine List.forall_mem_cons.mpr ⟨(ek_iv hS gg_192 rfl (by decide) cl_10 (by decide) qt2226 qt2227 qt2228), ?_⟩
  refine List.forall_mem_cons.mpr ⟨(ek_is hS gg_27 rfl (by decide) qt2208 qt2209), ?_⟩
  refine List.forall_mem_cons.mpr ⟨(ek_new4), ?_⟩
  refine List.forall_mem_cons.mpr ⟨(ek_getn hS cl_5 (by decide) (by decide) rfl qt516), ?_⟩
  refine List.forall_mem_cons.mpr ⟨(ek_iv hS gg_154 rfl (by decide) cl_8 (by decide) qt2258 qt1856 qt1857), ?_⟩
  refine List.forall_mem_cons.mpr ⟨(ek_iv hS gg_179 rfl (by decide) cl_9 (by decide) qt2259 qt1991 qt1992), ?_⟩
  refine List.forall_mem_cons.mpr ⟨(ek_getn hS cl_5 (by decide) (by decide) rfl qt532), ?_⟩
  refine List.forall_mem_cons.mpr ⟨(ek_getn hS cl_5 (by decide) (by decide) rfl qt527), ?_⟩
  refine List.forall_mem_cons.mpr ⟨(ek_getn hS cl_5 (by decide) (by decide) rfl qt545), ?_⟩
  refine List.forall_mem_cons.mpr ⟨(ek_getn hS cl_5 (by decide) (by decide) rfl qt539), ?_⟩
  refine List.forall_mem_cons.mpr ⟨(ek_iv hS gg_181 rfl (by decide) cl_9 (by decide) qt2260 qt2261 qt2262), ?_⟩
  refine List.forall_mem_cons.mpr ⟨(ek_iv hS gg_168 rfl (by decide) cl_9 (by decide) qt2271 qt1873 qt1874), ?_⟩
  refine List.forall_mem_cons.mpr ⟨(ek_iv hS gg_89 rfl (by decide) cl_6 (by decide) qt2272 qt1776 qt1777), ?_⟩
  refine List.forall_mem_cons.mpr ⟨(ek_iv hS gg_174 rfl (by decide) cl_9 (by decide) qt2273 qt1921 qt1922), ?_⟩
  refine List.forall_mem_cons.mpr ⟨(ek_getn hS cl_5 (by decide) (by decide) rfl qt427), ?_⟩
  refine List.forall_mem_cons.mpr ⟨(ek_iv hS gg_58 rfl (by decide) cl_4 (by decide) qt2274 qt1513 qt1514), ?_⟩
  refine List.forall_mem_cons.mpr ⟨(ek_iv hS gg_258 rfl (by decide) cl_14 (by decide) qt2282 qt2283 qt2284), ?_⟩
  refine List.forall_mem_cons.mpr ⟨(ek_iv hS gg_260 rfl (by decide) cl_14 (by decide) qt2308 qt2309 qt2310), ?_⟩
  refine List.forall_mem_cons.mpr ⟨(ek_iv hS gg_278 rfl (by decide) cl_14 (by decide) qt2452 qt2453 qt2454), ?_⟩
  exact fun q h => absurd h List.not_mem_nil
def RT_X1 : List (Instr × Nat × Nat × Nat) := RT_X1_0 ++ (RT_X1_1 ++ (RT_X1_2))
theorem rt_X1 (hS : pv_ST B sa xv H0 args s) : ∀ q ∈ RT_X1, pv_EK (mkE B sa xv D cA H0) (PP L xs) GG "RegionHouse" q args s := List.forall_mem_append.mpr ⟨rt_X1_0 hS, List.forall_mem_append.mpr ⟨rt_X1_1 hS, rt_X1_2 hS⟩⟩
def RT_X2_0 : List (Instr × Nat × Nat × Nat) := [(.invokespecial 1, 0, 0, 2), (.newarray .byte, 0, 0, 0), (.putfield 7, 2, 0, 0), (.invokevirtual 17, 35, 1, 2), (.getfield 7, 2, 0, 0), (.getfield 13, 2, 1, 0), (.putfield 13, 2, 1, 0), (.invokevirtual 21, 431, 1, 90), (.invokevirtual 27, 433, 2, 90), (.invokevirtual 31, 34, 2, 2), (.ldc2_w 35, 9, 0, 0), (.ldc2_w 37, 10, 0, 0), (.ldc2_w 39, 48, 0, 0)]
set_option maxRecDepth 100000 in
set_option maxHeartbeats 4000000 in
theorem rt_X2_0 (hS : pv_ST B sa xv H0 args s) : ∀ q ∈ RT_X2_0, pv_EK (mkE B sa xv D cA H0) (PP L xs) GG "RegionHouse$Signs" q args s := by
  skip
  refine List.forall_mem_cons.mpr ⟨(ek_obj hS qt289 qt282 qt283), ?_⟩
  refine List.forall_mem_cons.mpr ⟨(ek_newa hS qt297), ?_⟩
  refine List.forall_mem_cons.mpr ⟨(ek_putf hS cl_2 (by decide) (by decide) rfl rfl qt290), ?_⟩
  refine List.forall_mem_cons.mpr ⟨(ek_iv hS gg_35 rfl (by decide) cl_2 (by decide) qt1176 qt1177 qt1178), ?_⟩
  refine List.forall_mem_cons.mpr ⟨(ek_get hS cl_2 (by decide) (by decide) rfl qt290), ?_⟩
  refine List.forall_mem_cons.mpr ⟨(ek_get hS cl_2 (by decide) (by decide) rfl qt291), ?_⟩
  refine List.forall_mem_cons.mpr ⟨(ek_put hS cl_2 (by decide) (by decide) rfl rfl qt291), ?_⟩
  refine List.forall_mem_cons.mpr ⟨(ek_ivs hS gg_431 rfl (by decide) qt2127 qt333 qt334), ?_⟩
  refine List.forall_mem_cons.mpr ⟨(ek_ivs hS gg_433 rfl (by decide) qt2128 qt343 qt344), ?_⟩
  refine List.forall_mem_cons.mpr ⟨(ek_iv hS gg_34 rfl (by decide) cl_2 (by decide) qt2129 qt1173 qt1174), ?_⟩
  refine List.forall_mem_cons.mpr ⟨(ek_ldl hS qt2138), ?_⟩
  refine List.forall_mem_cons.mpr ⟨(ek_ldl hS qt2139), ?_⟩
  refine List.forall_mem_cons.mpr ⟨(ek_ldl hS qt2140), ?_⟩
  exact fun q h => absurd h List.not_mem_nil
def RT_X2 : List (Instr × Nat × Nat × Nat) := RT_X2_0
theorem rt_X2 (hS : pv_ST B sa xv H0 args s) : ∀ q ∈ RT_X2, pv_EK (mkE B sa xv D cA H0) (PP L xs) GG "RegionHouse$Signs" q args s := rt_X2_0 hS
def RT_X3_0 : List (Instr × Nat × Nat × Nat) := [(.invokespecial 1, 0, 0, 2), (.getfield 7, 3, 0, 0), (.getfield 13, 3, 1, 0), (.putfield 7, 3, 0, 0), (.putfield 13, 3, 1, 0), (.new 16, 16, 0, 4)]
set_option maxRecDepth 100000 in
set_option maxHeartbeats 4000000 in
theorem rt_X3_0 (hS : pv_ST B sa xv H0 args s) : ∀ q ∈ RT_X3_0, pv_EK (mkE B sa xv D cA H0) (PP L xs) GG "RegionHouse$Fault" q args s := by
  skip
  refine List.forall_mem_cons.mpr ⟨(ek_obj hS qt303 qt282 qt283), ?_⟩
  refine List.forall_mem_cons.mpr ⟨(ek_get hS cl_3 (by decide) (by decide) rfl qt304), ?_⟩
  refine List.forall_mem_cons.mpr ⟨(ek_get hS cl_3 (by decide) (by decide) rfl qt305), ?_⟩
  refine List.forall_mem_cons.mpr ⟨(ek_put hS cl_3 (by decide) (by decide) rfl rfl qt304), ?_⟩
  refine List.forall_mem_cons.mpr ⟨(ek_put hS cl_3 (by decide) (by decide) rfl rfl qt305), ?_⟩
  refine List.forall_mem_cons.mpr ⟨(ek_new4), ?_⟩
  exact fun q h => absurd h List.not_mem_nil
def RT_X3 : List (Instr × Nat × Nat × Nat) := RT_X3_0
theorem rt_X3 (hS : pv_ST B sa xv H0 args s) : ∀ q ∈ RT_X3, pv_EK (mkE B sa xv D cA H0) (PP L xs) GG "RegionHouse$Fault" q args s := rt_X3_0 hS
def RT_X4_0 : List (Instr × Nat × Nat × Nat) := [(.invokespecial 3, 0, 0, 2), (.anewarray 9, 0, 0, 0), (.ldc 11, 0, 0, 1), (.ldc 13, 1, 0, 1), (.ldc 15, 2, 0, 1), (.ldc 17, 3, 0, 1), (.ldc 19, 4, 0, 1), (.ldc 21, 5, 0, 1), (.ldc 23, 6, 0, 1), (.ldc 25, 7, 0, 1), (.ldc 27, 8, 0, 1), (.ldc 29, 9, 0, 1), (.ldc 31, 10, 0, 1), (.ldc 33, 11, 0, 1), (.ldc 35, 12, 0, 1), (.putfield 37, 4, 0, 0), (.newarray .long, 0, 0, 0), (.putfield 43, 4, 1, 0), (.newarray .byte, 0, 0, 0), (.putfield 47, 4, 2, 0), (.newarray .int, 0, 0, 0), (.putfield 51, 4, 4, 0), (.putfield 55, 4, 5, 0), (.putfield 58, 4, 6, 0), (.putfield 61, 4, 7, 0), (.putfield 64, 4, 8, 0), (.getfield 37, 4, 0, 0), (.invokevirtual 67, 431, 1, 90), (.getfield 43, 4, 1, 0), (.invokevirtual 71, 433, 2, 90), (.invokevirtual 105, 36, 1, 2), (.putfield 79, 4, 3, 0), (.getfield 79, 4, 3, 0), (.getfield 47, 4, 2, 0), (.invokevirtual 110, 37, 2, 2), (.putfield 75, 4, 9, 0), (.invokevirtual 113, 48, 2, 4), (.getfield 51, 4, 4, 0), (.getfield 75, 4, 9, 0), (.getfield 55, 4, 5, 0)]
set_option maxRecDepth 100000 in
set_option maxHeartbeats 4000000 in
theorem rt_X4_0 (hS : pv_ST B sa xv H0 args s) : ∀ q ∈ RT_X4_0, pv_EK (mkE B sa xv D cA H0) (PP L xs) GG "RegionHouse$Lexemes" q args s := by
  skip
  refine List.forall_mem_cons.mpr ⟨(ek_obj hS qt316 qt282 qt283), ?_⟩
  refine List.forall_mem_cons.mpr ⟨(ek_anew hS qt317 qt318), ?_⟩
  refine List.forall_mem_cons.mpr ⟨(ek_lds hS (k := 0) rfl (by decide)), ?_⟩
  refine List.forall_mem_cons.mpr ⟨(ek_lds hS (k := 1) rfl (by decide)), ?_⟩
  refine List.forall_mem_cons.mpr ⟨(ek_lds hS (k := 2) rfl (by decide)), ?_⟩
  refine List.forall_mem_cons.mpr ⟨(ek_lds hS (k := 3) rfl (by decide)), ?_⟩
  refine List.forall_mem_cons.mpr ⟨(ek_lds hS (k := 4) rfl (by decide)), ?_⟩
  refine List.forall_mem_cons.mpr ⟨(ek_lds hS (k := 5) rfl (by decide)), ?_⟩
  refine List.forall_mem_cons.mpr ⟨(ek_lds hS (k := 6) rfl (by decide)), ?_⟩
  refine List.forall_mem_cons.mpr ⟨(ek_lds hS (k := 7) rfl (by decide)), ?_⟩
  refine List.forall_mem_cons.mpr ⟨(ek_lds hS (k := 8) rfl (by decide)), ?_⟩
  refine List.forall_mem_cons.mpr ⟨(ek_lds hS (k := 9) rfl (by decide)), ?_⟩
  refine List.forall_mem_cons.mpr ⟨(ek_lds hS (k := 10) rfl (by decide)), ?_⟩
  refine List.forall_mem_cons.mpr ⟨(ek_lds hS (k := 11) rfl (by decide)), ?_⟩
  refine List.forall_mem_cons.mpr ⟨(ek_lds hS (k := 12) rfl (by decide)), ?_⟩
  refine List.forall_mem_cons.mpr ⟨(ek_putf hS cl_4 (by decide) (by decide) rfl rfl qt380), ?_⟩
  refine List.forall_mem_cons.mpr ⟨(ek_newa hS qt411), ?_⟩
  refine List.forall_mem_cons.mpr ⟨(ek_putf hS cl_4 (by decide) (by decide) rfl rfl qt381), ?_⟩
  refine List.forall_mem_cons.mpr ⟨(ek_newa hS qt297), ?_⟩
  refine List.forall_mem_cons.mpr ⟨(ek_putf hS cl_4 (by decide) (by decide) rfl rfl qt382), ?_⟩
  refine List.forall_mem_cons.mpr ⟨(ek_newa hS qt412), ?_⟩
  refine List.forall_mem_cons.mpr ⟨(ek_putf hS cl_4 (by decide) (by decide) rfl rfl qt384), ?_⟩
  refine List.forall_mem_cons.mpr ⟨(ek_putf hS cl_4 (by decide) (by decide) rfl rfl qt385), ?_⟩
  refine List.forall_mem_cons.mpr ⟨(ek_putf hS cl_4 (by decide) (by decide) rfl rfl qt386), ?_⟩
  refine List.forall_mem_cons.mpr ⟨(ek_putf hS cl_4 (by decide) (by decide) rfl rfl qt387), ?_⟩
  refine List.forall_mem_cons.mpr ⟨(ek_putf hS cl_4 (by decide) (by decide) rfl rfl qt388), ?_⟩
  refine List.forall_mem_cons.mpr ⟨(ek_get hS cl_4 (by decide) (by decide) rfl qt380), ?_⟩
  refine List.forall_mem_cons.mpr ⟨(ek_ivs hS gg_431 rfl (by decide) qt332 qt333 qt334), ?_⟩
  refine List.forall_mem_cons.mpr ⟨(ek_get hS cl_4 (by decide) (by decide) rfl qt381), ?_⟩
  refine List.forall_mem_cons.mpr ⟨(ek_ivs hS gg_433 rfl (by decide) qt342 qt343 qt344), ?_⟩
  refine List.forall_mem_cons.mpr ⟨(ek_iv hS gg_36 rfl (by decide) cl_2 (by decide) qt1382 qt1181 qt1182), ?_⟩
  refine List.forall_mem_cons.mpr ⟨(ek_put hS cl_4 (by decide) (by decide) rfl rfl qt383), ?_⟩
  refine List.forall_mem_cons.mpr ⟨(ek_get hS cl_4 (by decide) (by decide) rfl qt383), ?_⟩
  refine List.forall_mem_cons.mpr ⟨(ek_get hS cl_4 (by decide) (by decide) rfl qt382), ?_⟩
  refine List.forall_mem_cons.mpr ⟨(ek_iv hS gg_37 rfl (by decide) cl_2 (by decide) qt1383 qt1201 qt1202), ?_⟩
  refine List.forall_mem_cons.mpr ⟨(ek_put hS cl_4 (by decide) (by decide) rfl rfl qt389), ?_⟩
  refine List.forall_mem_cons.mpr ⟨(ek_iv hS gg_48 rfl (by decide) cl_4 (by decide) qt1384 qt1386 (lw_all_tbl qs10)), ?_⟩
  refine List.forall_mem_cons.mpr ⟨(ek_get hS cl_4 (by decide) (by decide) rfl qt384), ?_⟩
  refine List.forall_mem_cons.mpr ⟨(ek_get hS cl_4 (by decide) (by decide) rfl qt389), ?_⟩
  refine List.forall_mem_cons.mpr ⟨(ek_get hS cl_4 (by decide) (by decide) rfl qt385), ?_⟩
  exact fun q h => absurd h List.not_mem_nil
def RT_X4_1 : List (Instr × Nat × Nat × Nat) := [(.getfield 61, 4, 7, 0), (.getfield 64, 4, 8, 0), (.invokevirtual 81, 49, 2, 4), (.invokestatic 85, 50, 1, 0), (.invokevirtual 96, 51, 2, 4), (.invokestatic 89, 52, 1, 0), (.invokevirtual 99, 54, 2, 4), (.invokevirtual 102, 55, 2, 4), (.getfield 58, 4, 6, 0), (.invokevirtual 92, 53, 4, 4), (.invokevirtual 116, 34, 2, 2)]
set_option maxRecDepth 100000 in
set_option maxHeartbeats 4000000 in
theorem rt_X4_1 (hS : pv_ST B sa xv H0 args s) : ∀ q ∈ RT_X4_1, pv_EK (mkE B sa xv D cA H0) (PP L xs) GG "RegionHouse$Lexemes" q args s := by
  skip
  refine List.forall_mem_cons.mpr ⟨(ek_get hS cl_4 (by decide) (by decide) rfl qt387), ?_⟩
  refine List.forall_mem_cons.mpr ⟨(ek_get hS cl_4 (by decide) (by decide) rfl qt388), ?_⟩
  refine List.forall_mem_cons.mpr ⟨(ek_iv hS gg_49 rfl (by decide) cl_4 (by decide) qt1388 qt1390 (lw_all_tbl qs11)), ?_⟩
  refine List.forall_mem_cons.mpr ⟨(ek_is hS gg_50 rfl (by decide) qt1392 qt1393), ?_⟩
  refine List.forall_mem_cons.mpr ⟨(ek_iv hS gg_51 rfl (by decide) cl_4 (by decide) qt1395 qt1397 (lw_all_tbl qs12)), ?_⟩
  refine List.forall_mem_cons.mpr ⟨(ek_is hS gg_52 rfl (by decide) qt1399 qt1400), ?_⟩
  refine List.forall_mem_cons.mpr ⟨(ek_iv hS gg_54 rfl (by decide) cl_4 (by decide) qt1406 qt1408 (lw_all_tbl qs14)), ?_⟩
  refine List.forall_mem_cons.mpr ⟨(ek_iv hS gg_55 rfl (by decide) cl_4 (by decide) qt1410 qt1412 (lw_all_tbl qs15)), ?_⟩
  refine List.forall_mem_cons.mpr ⟨(ek_get hS cl_4 (by decide) (by decide) rfl qt386), ?_⟩
  refine List.forall_mem_cons.mpr ⟨(ek_iv hS gg_53 rfl (by decide) cl_4 (by decide) qt1402 qt1404 (lw_all_tbl qs13)), ?_⟩
  refine List.forall_mem_cons.mpr ⟨(ek_iv hS gg_34 rfl (by decide) cl_2 (by decide) qt2145 qt1173 qt1174), ?_⟩
  exact fun q h => absurd h List.not_mem_nil
def RT_X4 : List (Instr × Nat × Nat × Nat) := RT_X4_0 ++ (RT_X4_1)
theorem rt_X4 (hS : pv_ST B sa xv H0 args s) : ∀ q ∈ RT_X4, pv_EK (mkE B sa xv D cA H0) (PP L xs) GG "RegionHouse$Lexemes" q args s := List.forall_mem_append.mpr ⟨rt_X4_0 hS, rt_X4_1 hS⟩
def RT_X5_0 : List (Instr × Nat × Nat × Nat) := [(.invokespecial 3, 0, 0, 2), (.newarray .int, 0, 0, 0), (.putfield 11, 5, 0, 0), (.putfield 15, 5, 1, 0), (.putfield 18, 5, 2, 0), (.putfield 21, 5, 3, 0), (.putfield 24, 5, 4, 0), (.putfield 27, 5, 5, 0), (.putfield 30, 5, 6, 0), (.putfield 33, 5, 7, 0), (.putfield 36, 5, 8, 0), (.putfield 39, 5, 9, 0), (.putfield 42, 5, 10, 0), (.putfield 45, 5, 11, 0), (.putfield 48, 5, 12, 0), (.newarray .long, 0, 0, 0), (.putfield 51, 5, 14, 0), (.putfield 55, 5, 15, 0), (.putfield 58, 5, 16, 0), (.putfield 61, 5, 17, 0), (.putfield 64, 5, 18, 0), (.putfield 67, 5, 20, 0), (.putfield 70, 5, 21, 0), (.putfield 73, 5, 22, 0), (.putfield 76, 5, 23, 0), (.putfield 79, 5, 24, 0), (.putfield 82, 5, 25, 0), (.putfield 85, 5, 27, 0), (.putfield 88, 5, 28, 0), (.putfield 91, 5, 30, 0), (.putfield 94, 5, 31, 0), (.putfield 97, 5, 32, 0), (.putfield 100, 5, 33, 0), (.putfield 103, 5, 34, 0), (.putfield 106, 5, 35, 0), (.putfield 109, 5, 36, 0), (.putfield 112, 5, 37, 0), (.putfield 115, 5, 13, 0), (.putfield 119, 5, 19, 0), (.putfield 122, 5, 26, 0)]
set_option maxRecDepth 100000 in
set_option maxHeartbeats 4000000 in
theorem rt_X5_0 (hS : pv_ST B sa xv H0 args s) : ∀ q ∈ RT_X5_0, pv_EK (mkE B sa xv D cA H0) (PP L xs) GG "RegionHouse$Program" q args s := by
  skip
  refine List.forall_mem_cons.mpr ⟨(ek_obj hS qt418 qt282 qt283), ?_⟩
  refine List.forall_mem_cons.mpr ⟨(ek_newa hS qt412), ?_⟩
  refine List.forall_mem_cons.mpr ⟨(ek_putf hS cl_5 (by decide) (by decide) rfl rfl qt419), ?_⟩
  refine List.forall_mem_cons.mpr ⟨(ek_putf hS cl_5 (by decide) (by decide) rfl rfl qt424), ?_⟩
  refine List.forall_mem_cons.mpr ⟨(ek_putf hS cl_5 (by decide) (by decide) rfl rfl qt430), ?_⟩
  refine List.forall_mem_cons.mpr ⟨(ek_putf hS cl_5 (by decide) (by decide) rfl rfl qt432), ?_⟩
  refine List.forall_mem_cons.mpr ⟨(ek_putf hS cl_5 (by decide) (by decide) rfl rfl qt435), ?_⟩
  refine List.forall_mem_cons.mpr ⟨(ek_putf hS cl_5 (by decide) (by decide) rfl rfl qt440), ?_⟩
  refine List.forall_mem_cons.mpr ⟨(ek_putf hS cl_5 (by decide) (by decide) rfl rfl qt443), ?_⟩
  refine List.forall_mem_cons.mpr ⟨(ek_putf hS cl_5 (by decide) (by decide) rfl rfl qt445), ?_⟩
  refine List.forall_mem_cons.mpr ⟨(ek_putf hS cl_5 (by decide) (by decide) rfl rfl qt449), ?_⟩
  refine List.forall_mem_cons.mpr ⟨(ek_putf hS cl_5 (by decide) (by decide) rfl rfl qt452), ?_⟩
  refine List.forall_mem_cons.mpr ⟨(ek_putf hS cl_5 (by decide) (by decide) rfl rfl qt455), ?_⟩
  refine List.forall_mem_cons.mpr ⟨(ek_putf hS cl_5 (by decide) (by decide) rfl rfl qt457), ?_⟩
  refine List.forall_mem_cons.mpr ⟨(ek_putf hS cl_5 (by decide) (by decide) rfl rfl qt463), ?_⟩
  refine List.forall_mem_cons.mpr ⟨(ek_newa hS qt411), ?_⟩
  refine List.forall_mem_cons.mpr ⟨(ek_putf hS cl_5 (by decide) (by decide) rfl rfl qt467), ?_⟩
  refine List.forall_mem_cons.mpr ⟨(ek_putf hS cl_5 (by decide) (by decide) rfl rfl qt468), ?_⟩
  refine List.forall_mem_cons.mpr ⟨(ek_putf hS cl_5 (by decide) (by decide) rfl rfl qt470), ?_⟩
  refine List.forall_mem_cons.mpr ⟨(ek_putf hS cl_5 (by decide) (by decide) rfl rfl qt472), ?_⟩
  refine List.forall_mem_cons.mpr ⟨(ek_putf hS cl_5 (by decide) (by decide) rfl rfl qt474), ?_⟩
  refine List.forall_mem_cons.mpr ⟨(ek_putf hS cl_5 (by decide) (by decide) rfl rfl qt479), ?_⟩
  refine List.forall_mem_cons.mpr ⟨(ek_putf hS cl_5 (by decide) (by decide) rfl rfl qt480), ?_⟩
  refine List.forall_mem_cons.mpr ⟨(ek_putf hS cl_5 (by decide) (by decide) rfl rfl qt484), ?_⟩
  refine List.forall_mem_cons.mpr ⟨(ek_putf hS cl_5 (by decide) (by decide) rfl rfl qt488), ?_⟩
  refine List.forall_mem_cons.mpr ⟨(ek_putf hS cl_5 (by decide) (by decide) rfl rfl qt491), ?_⟩
  refine List.forall_mem_cons.mpr ⟨(ek_putf hS cl_5 (by decide) (by decide) rfl rfl qt492), ?_⟩
  refine List.forall_mem_cons.mpr ⟨(ek_put hS cl_5 (by decide) (by decide) rfl rfl qt497), ?_⟩
  refine List.forall_mem_cons.mpr ⟨(ek_put hS cl_5 (by decide) (by decide) rfl rfl qt500), ?_⟩
  refine List.forall_mem_cons.mpr ⟨(ek_putf hS cl_5 (by decide) (by decide) rfl rfl qt504), ?_⟩
  refine List.forall_mem_cons.mpr ⟨(ek_putf hS cl_5 (by decide) (by decide) rfl rfl qt506), ?_⟩
  refine List.forall_mem_cons.mpr ⟨(ek_putf hS cl_5 (by decide) (by decide) rfl rfl qt510), ?_⟩
  refine List.forall_mem_cons.mpr ⟨(ek_putf hS cl_5 (by decide) (by decide) rfl rfl qt518), ?_⟩
  refine List.forall_mem_cons.mpr ⟨(ek_putf hS cl_5 (by decide) (by decide) rfl rfl qt523), ?_⟩
  refine List.forall_mem_cons.mpr ⟨(ek_putf hS cl_5 (by decide) (by decide) rfl rfl qt529), ?_⟩
  refine List.forall_mem_cons.mpr ⟨(ek_putf hS cl_5 (by decide) (by decide) rfl rfl qt535), ?_⟩
  refine List.forall_mem_cons.mpr ⟨(ek_putf hS cl_5 (by decide) (by decide) rfl rfl qt541), ?_⟩
  refine List.forall_mem_cons.mpr ⟨(ek_put hS cl_5 (by decide) (by decide) rfl rfl qt465), ?_⟩
  refine List.forall_mem_cons.mpr ⟨(ek_put hS cl_5 (by decide) (by decide) rfl rfl qt476), ?_⟩
  refine List.forall_mem_cons.mpr ⟨(ek_put hS cl_5 (by decide) (by decide) rfl rfl qt495), ?_⟩
  exact fun q h => absurd h List.not_mem_nil
def RT_X5_1 : List (Instr × Nat × Nat × Nat) := [(.putfield 125, 5, 29, 0), (.putfield 128, 5, 38, 0), (.getfield 91, 5, 30, 0), (.getfield 51, 5, 14, 0), (.getfield 61, 5, 17, 0), (.getfield 119, 5, 19, 0), (.getfield 55, 5, 15, 0), (.getfield 58, 5, 16, 0), (.getfield 64, 5, 18, 0), (.getfield 122, 5, 26, 0), (.getfield 67, 5, 20, 0), (.getfield 76, 5, 23, 0), (.getfield 79, 5, 24, 0), (.getfield 82, 5, 25, 0), (.getfield 115, 5, 13, 0), (.getfield 11, 5, 0, 0), (.getfield 15, 5, 1, 0), (.getfield 18, 5, 2, 0), (.getfield 21, 5, 3, 0), (.getfield 24, 5, 4, 0), (.getfield 27, 5, 5, 0), (.getfield 30, 5, 6, 0), (.getfield 33, 5, 7, 0), (.getfield 36, 5, 8, 0), (.getfield 39, 5, 9, 0), (.getfield 42, 5, 10, 0), (.getfield 45, 5, 11, 0), (.getfield 48, 5, 12, 0), (.invokevirtual 131, 72, 4, 5), (.invokestatic 135, 439, 2, 0), (.invokevirtual 141, 74, 3, 5), (.getfield 125, 5, 29, 0), (.getfield 85, 5, 27, 0), (.invokevirtual 144, 75, 1, 5), (.getfield 88, 5, 28, 0), (.invokestatic 147, 440, 2, 0), (.getfield 106, 5, 35, 0)]
set_option maxRecDepth 100000 in
set_option maxHeartbeats 4000000 in
theorem rt_X5_1 (hS : pv_ST B sa xv H0 args s) : ∀ q ∈ RT_X5_1, pv_EK (mkE B sa xv D cA H0) (PP L xs) GG "RegionHouse$Program" q args s := by
  skip
  refine List.forall_mem_cons.mpr ⟨(ek_put hS cl_5 (by decide) (by decide) rfl rfl qt503), ?_⟩
  refine List.forall_mem_cons.mpr ⟨(ek_put hS cl_5 (by decide) (by decide) rfl rfl qt547), ?_⟩
  refine List.forall_mem_cons.mpr ⟨(ek_get hS cl_5 (by decide) (by decide) rfl qt504), ?_⟩
  refine List.forall_mem_cons.mpr ⟨(ek_get hS cl_5 (by decide) (by decide) rfl qt467), ?_⟩
  refine List.forall_mem_cons.mpr ⟨(ek_get hS cl_5 (by decide) (by decide) rfl qt472), ?_⟩
  refine List.forall_mem_cons.mpr ⟨(ek_get hS cl_5 (by decide) (by decide) rfl qt476), ?_⟩
  refine List.forall_mem_cons.mpr ⟨(ek_get hS cl_5 (by decide) (by decide) rfl qt468), ?_⟩
  refine List.forall_mem_cons.mpr ⟨(ek_get hS cl_5 (by decide) (by decide) rfl qt470), ?_⟩
  refine List.forall_mem_cons.mpr ⟨(ek_get hS cl_5 (by decide) (by decide) rfl qt474), ?_⟩
  refine List.forall_mem_cons.mpr ⟨(ek_get hS cl_5 (by decide) (by decide) rfl qt495), ?_⟩
  refine List.forall_mem_cons.mpr ⟨(ek_get hS cl_5 (by decide) (by decide) rfl qt479), ?_⟩
  refine List.forall_mem_cons.mpr ⟨(ek_get hS cl_5 (by decide) (by decide) rfl qt488), ?_⟩
  refine List.forall_mem_cons.mpr ⟨(ek_get hS cl_5 (by decide) (by decide) rfl qt491), ?_⟩
  refine List.forall_mem_cons.mpr ⟨(ek_get hS cl_5 (by decide) (by decide) rfl qt492), ?_⟩
  refine List.forall_mem_cons.mpr ⟨(ek_get hS cl_5 (by decide) (by decide) rfl qt465), ?_⟩
  refine List.forall_mem_cons.mpr ⟨(ek_get hS cl_5 (by decide) (by decide) rfl qt419), ?_⟩
  refine List.forall_mem_cons.mpr ⟨(ek_get hS cl_5 (by decide) (by decide) rfl qt424), ?_⟩
  refine List.forall_mem_cons.mpr ⟨(ek_get hS cl_5 (by decide) (by decide) rfl qt430), ?_⟩
  refine List.forall_mem_cons.mpr ⟨(ek_get hS cl_5 (by decide) (by decide) rfl qt432), ?_⟩
  refine List.forall_mem_cons.mpr ⟨(ek_get hS cl_5 (by decide) (by decide) rfl qt435), ?_⟩
  refine List.forall_mem_cons.mpr ⟨(ek_get hS cl_5 (by decide) (by decide) rfl qt440), ?_⟩
  refine List.forall_mem_cons.mpr ⟨(ek_get hS cl_5 (by decide) (by decide) rfl qt443), ?_⟩
  refine List.forall_mem_cons.mpr ⟨(ek_get hS cl_5 (by decide) (by decide) rfl qt445), ?_⟩
  refine List.forall_mem_cons.mpr ⟨(ek_get hS cl_5 (by decide) (by decide) rfl qt449), ?_⟩
  refine List.forall_mem_cons.mpr ⟨(ek_get hS cl_5 (by decide) (by decide) rfl qt452), ?_⟩
  refine List.forall_mem_cons.mpr ⟨(ek_get hS cl_5 (by decide) (by decide) rfl qt455), ?_⟩
  refine List.forall_mem_cons.mpr ⟨(ek_get hS cl_5 (by decide) (by decide) rfl qt457), ?_⟩
  refine List.forall_mem_cons.mpr ⟨(ek_get hS cl_5 (by decide) (by decide) rfl qt463), ?_⟩
  refine List.forall_mem_cons.mpr ⟨(ek_iv hS gg_72 rfl (by decide) cl_5 (by decide) qt1588 qt1589 qt1590), ?_⟩
  refine List.forall_mem_cons.mpr ⟨(ek_is hS gg_439 rfl (by decide) qt1592 qt1558), ?_⟩
  refine List.forall_mem_cons.mpr ⟨(ek_iv hS gg_74 rfl (by decide) cl_5 (by decide) qt1657 qt1658 qt1659), ?_⟩
  refine List.forall_mem_cons.mpr ⟨(ek_get hS cl_5 (by decide) (by decide) rfl qt503), ?_⟩
  refine List.forall_mem_cons.mpr ⟨(ek_get hS cl_5 (by decide) (by decide) rfl qt497), ?_⟩
  refine List.forall_mem_cons.mpr ⟨(ek_iv hS gg_75 rfl (by decide) cl_5 (by decide) qt1661 qt1663 (lw_all_tbl qs43)), ?_⟩
  refine List.forall_mem_cons.mpr ⟨(ek_get hS cl_5 (by decide) (by decide) rfl qt500), ?_⟩
  refine List.forall_mem_cons.mpr ⟨(ek_is hS gg_440 rfl (by decide) qt1665 qt1666), ?_⟩
  refine List.forall_mem_cons.mpr ⟨(ek_get hS cl_5 (by decide) (by decide) rfl qt529), ?_⟩
  exact fun q h => absurd h List.not_mem_nil
def RT_X5 : List (Instr × Nat × Nat × Nat) := RT_X5_0 ++ (RT_X5_1)
theorem rt_X5 (hS : pv_ST B sa xv H0 args s) : ∀ q ∈ RT_X5, pv_EK (mkE B sa xv D cA H0) (PP L xs) GG "RegionHouse$Program" q args s := List.forall_mem_append.mpr ⟨rt_X5_0 hS, rt_X5_1 hS⟩
def RT_X6_0 : List (Instr × Nat × Nat × Nat) := [(.invokespecial 3, 0, 0, 2), (.ldc 9, 61440, 0, 0), (.newarray .int, 0, 0, 0), (.putfield 10, 6, 0, 0), (.putfield 16, 6, 1, 0), (.putfield 19, 6, 2, 0), (.putfield 22, 6, 3, 0), (.putfield 25, 6, 4, 0), (.putfield 28, 6, 5, 0), (.putfield 31, 6, 6, 0), (.putfield 34, 6, 7, 0), (.ldc 37, 106496, 0, 0), (.putfield 38, 6, 9, 0), (.putfield 41, 6, 10, 0), (.putfield 44, 6, 13, 0), (.putfield 47, 6, 8, 0), (.putfield 51, 6, 11, 0), (.putfield 54, 6, 12, 0), (.invokevirtual 57, 79, 4, 6), (.getfield 47, 6, 8, 0), (.getfield 10, 6, 0, 0), (.invokevirtual 67, 80, 1, 6), (.getfield 16, 6, 1, 0), (.getfield 19, 6, 2, 0), (.getfield 22, 6, 3, 0), (.getfield 25, 6, 4, 0), (.getfield 28, 6, 5, 0), (.getfield 31, 6, 6, 0), (.invokestatic 61, 440, 2, 0), (.getfield 34, 6, 7, 0), (.getfield 54, 6, 12, 0), (.putfield 74, 6, 14, 0), (.invokevirtual 70, 84, 2, 6), (.invokevirtual 77, 85, 2, 6), (.getfield 74, 6, 14, 0), (.getfield 44, 6, 13, 0), (.invokevirtual 81, 87, 1, 6), (.invokevirtual 115, 83, 2, 6), (.getfield 38, 6, 9, 0), (.invokevirtual 118, 88, 3, 6)]
set_option maxRecDepth 100000 in
set_option maxHeartbeats 4000000 in
theorem rt_X6_0 (hS : pv_ST B sa xv H0 args s) : ∀ q ∈ RT_X6_0, pv_EK (mkE B sa xv D cA H0) (PP L xs) GG "RegionHouse$Types" q args s := by
  skip
  refine List.forall_mem_cons.mpr ⟨(ek_obj hS qt638 qt282 qt283), ?_⟩
  refine List.forall_mem_cons.mpr ⟨(ek_ldc hS qt639), ?_⟩
  refine List.forall_mem_cons.mpr ⟨(ek_newa hS qt412), ?_⟩
  refine List.forall_mem_cons.mpr ⟨(ek_put hS cl_6 (by decide) (by decide) rfl rfl qt641), ?_⟩
  refine List.forall_mem_cons.mpr ⟨(ek_put hS cl_6 (by decide) (by decide) rfl rfl qt642), ?_⟩
  refine List.forall_mem_cons.mpr ⟨(ek_put hS cl_6 (by decide) (by decide) rfl rfl qt643), ?_⟩
  refine List.forall_mem_cons.mpr ⟨(ek_put hS cl_6 (by decide) (by decide) rfl rfl qt644), ?_⟩
  refine List.forall_mem_cons.mpr ⟨(ek_put hS cl_6 (by decide) (by decide) rfl rfl qt645), ?_⟩
  refine List.forall_mem_cons.mpr ⟨(ek_put hS cl_6 (by decide) (by decide) rfl rfl qt646), ?_⟩
  refine List.forall_mem_cons.mpr ⟨(ek_put hS cl_6 (by decide) (by decide) rfl rfl qt647), ?_⟩
  refine List.forall_mem_cons.mpr ⟨(ek_put hS cl_6 (by decide) (by decide) rfl rfl qt648), ?_⟩
  refine List.forall_mem_cons.mpr ⟨(ek_ldc hS qt640), ?_⟩
  refine List.forall_mem_cons.mpr ⟨(ek_put hS cl_6 (by decide) (by decide) rfl rfl qt650), ?_⟩
  refine List.forall_mem_cons.mpr ⟨(ek_put hS cl_6 (by decide) (by decide) rfl rfl qt651), ?_⟩
  refine List.forall_mem_cons.mpr ⟨(ek_put hS cl_6 (by decide) (by decide) rfl rfl qt654), ?_⟩
  refine List.forall_mem_cons.mpr ⟨(ek_put hS cl_6 (by decide) (by decide) rfl rfl qt649), ?_⟩
  refine List.forall_mem_cons.mpr ⟨(ek_put hS cl_6 (by decide) (by decide) rfl rfl qt652), ?_⟩
  refine List.forall_mem_cons.mpr ⟨(ek_put hS cl_6 (by decide) (by decide) rfl rfl qt653), ?_⟩
  refine List.forall_mem_cons.mpr ⟨(ek_iv hS gg_79 rfl (by decide) cl_6 (by decide) qt1708 qt1709 qt1710), ?_⟩
  refine List.forall_mem_cons.mpr ⟨(ek_get hS cl_6 (by decide) (by decide) rfl qt649), ?_⟩
  refine List.forall_mem_cons.mpr ⟨(ek_get hS cl_6 (by decide) (by decide) rfl qt641), ?_⟩
  refine List.forall_mem_cons.mpr ⟨(ek_iv hS gg_80 rfl (by decide) cl_6 (by decide) qt1712 qt1714 (lw_all_tbl qs49)), ?_⟩
  refine List.forall_mem_cons.mpr ⟨(ek_get hS cl_6 (by decide) (by decide) rfl qt642), ?_⟩
  refine List.forall_mem_cons.mpr ⟨(ek_get hS cl_6 (by decide) (by decide) rfl qt643), ?_⟩
  refine List.forall_mem_cons.mpr ⟨(ek_get hS cl_6 (by decide) (by decide) rfl qt644), ?_⟩
  refine List.forall_mem_cons.mpr ⟨(ek_get hS cl_6 (by decide) (by decide) rfl qt645), ?_⟩
  refine List.forall_mem_cons.mpr ⟨(ek_get hS cl_6 (by decide) (by decide) rfl qt646), ?_⟩
  refine List.forall_mem_cons.mpr ⟨(ek_get hS cl_6 (by decide) (by decide) rfl qt647), ?_⟩
  refine List.forall_mem_cons.mpr ⟨(ek_is hS gg_440 rfl (by decide) qt1716 qt1666), ?_⟩
  refine List.forall_mem_cons.mpr ⟨(ek_get hS cl_6 (by decide) (by decide) rfl qt648), ?_⟩
  refine List.forall_mem_cons.mpr ⟨(ek_get hS cl_6 (by decide) (by decide) rfl qt653), ?_⟩
  refine List.forall_mem_cons.mpr ⟨(ek_put hS cl_6 (by decide) (by decide) rfl rfl qt655), ?_⟩
  refine List.forall_mem_cons.mpr ⟨(ek_iv hS gg_84 rfl (by decide) cl_6 (by decide) qt1745 qt1746 qt1747), ?_⟩
  refine List.forall_mem_cons.mpr ⟨(ek_iv hS gg_85 rfl (by decide) cl_6 (by decide) qt1749 qt1751 (lw_all_tbl qs51)), ?_⟩
  refine List.forall_mem_cons.mpr ⟨(ek_get hS cl_6 (by decide) (by decide) rfl qt655), ?_⟩
  refine List.forall_mem_cons.mpr ⟨(ek_get hS cl_6 (by decide) (by decide) rfl qt654), ?_⟩
  refine List.forall_mem_cons.mpr ⟨(ek_iv hS gg_87 rfl (by decide) cl_6 (by decide) qt1766 qt1768 (lw_all_tbl qs53)), ?_⟩
  refine List.forall_mem_cons.mpr ⟨(ek_iv hS gg_83 rfl (by decide) cl_6 (by decide) qt1770 qt1742 qt1743), ?_⟩
  refine List.forall_mem_cons.mpr ⟨(ek_get hS cl_6 (by decide) (by decide) rfl qt650), ?_⟩
  refine List.forall_mem_cons.mpr ⟨(ek_iv hS gg_88 rfl (by decide) cl_6 (by decide) qt1771 qt1772 qt1773), ?_⟩
  exact fun q h => absurd h List.not_mem_nil
def RT_X6_1 : List (Instr × Nat × Nat × Nat) := [(.getfield 41, 6, 10, 0), (.invokevirtual 96, 89, 2, 6), (.invokevirtual 99, 90, 3, 6), (.getfield 51, 6, 11, 0), (.invokevirtual 85, 95, 3, 6), (.invokevirtual 89, 96, 2, 6), (.invokevirtual 93, 97, 2, 6), (.putfield 103, 6, 15, 0), (.getfield 103, 6, 15, 0), (.putfield 106, 6, 16, 0), (.putfield 109, 6, 17, 0), (.getfield 106, 6, 16, 0), (.getfield 109, 6, 17, 0), (.invokevirtual 112, 103, 2, 6)]
set_option maxRecDepth 100000 in
set_option maxHeartbeats 4000000 in
theorem rt_X6_1 (hS : pv_ST B sa xv H0 args s) : ∀ q ∈ RT_X6_1, pv_EK (mkE B sa xv D cA H0) (PP L xs) GG "RegionHouse$Types" q args s := by
  skip
  refine List.forall_mem_cons.mpr ⟨(ek_get hS cl_6 (by decide) (by decide) rfl qt651), ?_⟩
  refine List.forall_mem_cons.mpr ⟨(ek_iv hS gg_89 rfl (by decide) cl_6 (by decide) qt1775 qt1776 qt1777), ?_⟩
  refine List.forall_mem_cons.mpr ⟨(ek_iv hS gg_90 rfl (by decide) cl_6 (by decide) qt1779 qt1780 qt1781), ?_⟩
  refine List.forall_mem_cons.mpr ⟨(ek_get hS cl_6 (by decide) (by decide) rfl qt652), ?_⟩
  refine List.forall_mem_cons.mpr ⟨(ek_iv hS gg_95 rfl (by decide) cl_6 (by decide) qt1816 qt1818 (lw_all_tbl qs58)), ?_⟩
  refine List.forall_mem_cons.mpr ⟨(ek_iv hS gg_96 rfl (by decide) cl_6 (by decide) qt1820 qt1822 (lw_all_tbl qs59)), ?_⟩
  refine List.forall_mem_cons.mpr ⟨(ek_iv hS gg_97 rfl (by decide) cl_6 (by decide) qt1824 qt1826 (lw_all_tbl qs60)), ?_⟩
  refine List.forall_mem_cons.mpr ⟨(ek_put hS cl_6 (by decide) (by decide) rfl rfl qt656), ?_⟩
  refine List.forall_mem_cons.mpr ⟨(ek_get hS cl_6 (by decide) (by decide) rfl qt656), ?_⟩
  refine List.forall_mem_cons.mpr ⟨(ek_put hS cl_6 (by decide) (by decide) rfl rfl qt657), ?_⟩
  refine List.forall_mem_cons.mpr ⟨(ek_put hS cl_6 (by decide) (by decide) rfl rfl qt658), ?_⟩
  refine List.forall_mem_cons.mpr ⟨(ek_get hS cl_6 (by decide) (by decide) rfl qt657), ?_⟩
  refine List.forall_mem_cons.mpr ⟨(ek_get hS cl_6 (by decide) (by decide) rfl qt658), ?_⟩
  refine List.forall_mem_cons.mpr ⟨(ek_iv hS gg_103 rfl (by decide) cl_6 (by decide) qt1956 qt1958 (lw_all_tbl qs75)), ?_⟩
  exact fun q h => absurd h List.not_mem_nil
def RT_X6 : List (Instr × Nat × Nat × Nat) := RT_X6_0 ++ (RT_X6_1)
theorem rt_X6 (hS : pv_ST B sa xv H0 args s) : ∀ q ∈ RT_X6, pv_EK (mkE B sa xv D cA H0) (PP L xs) GG "RegionHouse$Types" q args s := List.forall_mem_append.mpr ⟨rt_X6_0 hS, rt_X6_1 hS⟩
def RT_X7_0 : List (Instr × Nat × Nat × Nat) := [(.invokespecial 3, 0, 0, 2), (.newarray .int, 0, 0, 0), (.putfield 11, 7, 10, 0), (.putfield 17, 7, 12, 0), (.putfield 20, 7, 0, 0), (.putfield 24, 7, 1, 0), (.putfield 28, 7, 2, 0), (.getfield 24, 7, 1, 0), (.invokevirtual 104, 65, 1, 5), (.putfield 44, 7, 3, 0), (.putfield 64, 7, 11, 0), (.putfield 93, 7, 7, 0), (.invokevirtual 62, 109, 2, 7), (.invokevirtual 107, 110, 1, 7), (.getfield 93, 7, 7, 0), (.invokevirtual 109, 122, 2, 7), (.getfield 113, 5, 31, 1), (.getfield 44, 7, 3, 0), (.getfield 116, 5, 30, 1), (.getfield 120, 5, 32, 1), (.getfield 123, 5, 33, 1), (.getfield 126, 5, 19, 1), (.invokevirtual 129, 112, 2, 7), (.putfield 132, 7, 5, 0), (.invokevirtual 135, 118, 1, 7), (.getfield 20, 7, 0, 0), (.invokevirtual 67, 57, 2, 4), (.invokevirtual 61, 111, 3, 7), (.invokevirtual 138, 139, 1, 7), (.invokevirtual 48, 56, 3, 4), (.invokevirtual 70, 59, 2, 4), (.getfield 95, 5, 38, 1), (.invokevirtual 82, 66, 3, 5), (.putfield 95, 5, 38, 1), (.putfield 86, 7, 6, 0), (.invokevirtual 141, 115, 2, 7), (.invokevirtual 58, 113, 2, 7), (.getfield 28, 7, 2, 0), (.invokevirtual 32, 58, 2, 4), (.invokevirtual 38, 45, 3, 3)]
set_option maxRecDepth 100000 in
set_option maxHeartbeats 4000000 in
theorem rt_X7_0 (hS : pv_ST B sa xv H0 args s) : ∀ q ∈ RT_X7_0, pv_EK (mkE B sa xv D cA H0) (PP L xs) GG "RegionHouse$Reader" q args s := by
  skip
  refine List.forall_mem_cons.mpr ⟨(ek_obj hS qt701 qt282 qt283), ?_⟩
  refine List.forall_mem_cons.mpr ⟨(ek_newa hS qt412), ?_⟩
  refine List.forall_mem_cons.mpr ⟨(ek_putf hS cl_7 (by decide) (by decide) rfl rfl qt712), ?_⟩
  refine List.forall_mem_cons.mpr ⟨(ek_putf hS cl_7 (by decide) (by decide) rfl rfl qt714), ?_⟩
  refine List.forall_mem_cons.mpr ⟨(ek_putf hS cl_7 (by decide) (by decide) rfl rfl qt702), ?_⟩
  refine List.forall_mem_cons.mpr ⟨(ek_putf hS cl_7 (by decide) (by decide) rfl rfl qt703), ?_⟩
  refine List.forall_mem_cons.mpr ⟨(ek_putf hS cl_7 (by decide) (by decide) rfl rfl qt704), ?_⟩
  refine List.forall_mem_cons.mpr ⟨(ek_get hS cl_7 (by decide) (by decide) rfl qt703), ?_⟩
  refine List.forall_mem_cons.mpr ⟨(ek_iv hS gg_65 rfl (by decide) cl_5 (by decide) qt1488 qt1489 qt1490), ?_⟩
  refine List.forall_mem_cons.mpr ⟨(ek_put hS cl_7 (by decide) (by decide) rfl rfl qt705), ?_⟩
  refine List.forall_mem_cons.mpr ⟨(ek_put hS cl_7 (by decide) (by decide) rfl rfl qt713), ?_⟩
  refine List.forall_mem_cons.mpr ⟨(ek_put hS cl_7 (by decide) (by decide) rfl rfl qt709), ?_⟩
  refine List.forall_mem_cons.mpr ⟨(ek_iv hS gg_109 rfl (by decide) cl_7 (by decide) qt1492 qt1494 (lw_all_tbl qs17)), ?_⟩
  refine List.forall_mem_cons.mpr ⟨(ek_iv hS gg_110 rfl (by decide) cl_7 (by decide) qt1500 qt1502 (lw_all_tbl qs18)), ?_⟩
  refine List.forall_mem_cons.mpr ⟨(ek_get hS cl_7 (by decide) (by decide) rfl qt709), ?_⟩
  refine List.forall_mem_cons.mpr ⟨(ek_iv hS gg_122 rfl (by decide) cl_7 (by decide) qt1597 qt1599 (lw_all_tbl qs30)), ?_⟩
  refine List.forall_mem_cons.mpr ⟨(ek_getn hS cl_5 (by decide) (by decide) rfl qt509), ?_⟩
  refine List.forall_mem_cons.mpr ⟨(ek_get hS cl_7 (by decide) (by decide) rfl qt705), ?_⟩
  refine List.forall_mem_cons.mpr ⟨(ek_getn hS cl_5 (by decide) (by decide) rfl qt505), ?_⟩
  refine List.forall_mem_cons.mpr ⟨(ek_getn hS cl_5 (by decide) (by decide) rfl qt515), ?_⟩
  refine List.forall_mem_cons.mpr ⟨(ek_getn hS cl_5 (by decide) (by decide) rfl qt521), ?_⟩
  refine List.forall_mem_cons.mpr ⟨(ek_getn hS cl_5 (by decide) (by decide) rfl qt477), ?_⟩
  refine List.forall_mem_cons.mpr ⟨(ek_iv hS gg_112 rfl (by decide) cl_7 (by decide) qt1525 qt1527 (lw_all_tbl qs20)), ?_⟩
  refine List.forall_mem_cons.mpr ⟨(ek_put hS cl_7 (by decide) (by decide) rfl rfl qt707), ?_⟩
  refine List.forall_mem_cons.mpr ⟨(ek_iv hS gg_118 rfl (by decide) cl_7 (by decide) qt1564 qt1566 (lw_all_tbl qs26)), ?_⟩
  refine List.forall_mem_cons.mpr ⟨(ek_get hS cl_7 (by decide) (by decide) rfl qt702), ?_⟩
  refine List.forall_mem_cons.mpr ⟨(ek_iv hS gg_57 rfl (by decide) cl_4 (by decide) qt1504 qt1505 qt1506), ?_⟩
  refine List.forall_mem_cons.mpr ⟨(ek_iv hS gg_111 rfl (by decide) cl_7 (by decide) qt1508 qt1510 (lw_all_tbl qs19)), ?_⟩
  refine List.forall_mem_cons.mpr ⟨(ek_iv hS gg_139 rfl (by decide) cl_7 (by decide) qt1696 qt1698 (lw_all_tbl qs48)), ?_⟩
  refine List.forall_mem_cons.mpr ⟨(ek_iv hS gg_56 rfl (by decide) cl_4 (by decide) qt1496 qt1497 qt1498), ?_⟩
  refine List.forall_mem_cons.mpr ⟨(ek_iv hS gg_59 rfl (by decide) cl_4 (by decide) qt1517 qt1518 qt1519), ?_⟩
  refine List.forall_mem_cons.mpr ⟨(ek_getn hS cl_5 (by decide) (by decide) rfl qt551), ?_⟩
  refine List.forall_mem_cons.mpr ⟨(ek_iv hS gg_66 rfl (by decide) cl_5 (by decide) qt1521 qt1522 qt1523), ?_⟩
  refine List.forall_mem_cons.mpr ⟨(ek_putn hS cl_5 (by decide) (by decide) rfl rfl qt551), ?_⟩
  refine List.forall_mem_cons.mpr ⟨(ek_put hS cl_7 (by decide) (by decide) rfl rfl qt708), ?_⟩
  refine List.forall_mem_cons.mpr ⟨(ek_iv hS gg_115 rfl (by decide) cl_7 (by decide) qt1541 qt1543 (lw_all_tbl qs23)), ?_⟩
  refine List.forall_mem_cons.mpr ⟨(ek_iv hS gg_113 rfl (by decide) cl_7 (by decide) qt1529 qt1531 (lw_all_tbl qs21)), ?_⟩
  refine List.forall_mem_cons.mpr ⟨(ek_get hS cl_7 (by decide) (by decide) rfl qt704), ?_⟩
  refine List.forall_mem_cons.mpr ⟨(ek_iv hS gg_58 rfl (by decide) cl_4 (by decide) qt1512 qt1513 qt1514), ?_⟩
  refine List.forall_mem_cons.mpr ⟨(ek_iv hS gg_45 rfl (by decide) cl_3 (by decide) qt1516 qt1415 qt1416), ?_⟩
  exact fun q h => absurd h List.not_mem_nil
def RT_X7_1 : List (Instr × Nat × Nat × Nat) := [(.invokevirtual 55, 114, 2, 7), (.invokevirtual 52, 60, 3, 4), (.getfield 132, 7, 5, 0), (.invokevirtual 144, 116, 2, 7), (.invokevirtual 74, 67, 3, 5), (.invokevirtual 78, 117, 1, 7), (.getfield 85, 5, 18, 1), (.getfield 86, 7, 6, 0), (.invokevirtual 89, 68, 5, 5), (.invokestatic 98, 439, 2, 0), (.putfield 146, 7, 4, 0), (.getfield 149, 5, 34, 1), (.getfield 152, 5, 13, 1), (.getfield 155, 5, 36, 1), (.getfield 158, 5, 26, 1), (.invokevirtual 161, 119, 1, 7), (.getfield 164, 5, 9, 1), (.getfield 167, 5, 35, 1), (.getfield 170, 5, 37, 1), (.getfield 146, 7, 4, 0), (.invokevirtual 179, 120, 1, 7), (.invokevirtual 181, 121, 1, 7), (.invokevirtual 184, 123, 1, 7), (.invokevirtual 187, 124, 1, 7), (.invokevirtual 190, 125, 1, 7), (.invokevirtual 193, 69, 2, 5), (.getfield 196, 7, 9, 0), (.invokevirtual 199, 70, 5, 5), (.invokevirtual 203, 71, 5, 5), (.getfield 207, 5, 11, 1), (.getfield 210, 5, 21, 1), (.getfield 213, 5, 22, 1), (.putfield 216, 7, 8, 0), (.getfield 64, 7, 11, 0), (.invokevirtual 219, 126, 1, 7), (.invokevirtual 222, 131, 2, 7), (.getfield 216, 7, 8, 0), (.invokevirtual 225, 136, 1, 7), (.getfield 228, 5, 3, 1), (.invokevirtual 231, 127, 1, 7)]
set_option maxRecDepth 100000 in
set_option maxHeartbeats 4000000 in
theorem rt_X7_1 (hS : pv_ST B sa xv H0 args s) : ∀ q ∈ RT_X7_1, pv_EK (mkE B sa xv D cA H0) (PP L xs) GG "RegionHouse$Reader" q args s := by
  skip
  refine List.forall_mem_cons.mpr ⟨(ek_iv hS gg_114 rfl (by decide) cl_7 (by decide) qt1533 qt1535 (lw_all_tbl qs22)), ?_⟩
  refine List.forall_mem_cons.mpr ⟨(ek_iv hS gg_60 rfl (by decide) cl_4 (by decide) qt1537 qt1538 qt1539), ?_⟩
  refine List.forall_mem_cons.mpr ⟨(ek_get hS cl_7 (by decide) (by decide) rfl qt707), ?_⟩
  refine List.forall_mem_cons.mpr ⟨(ek_iv hS gg_116 rfl (by decide) cl_7 (by decide) qt1545 qt1547 (lw_all_tbl qs24)), ?_⟩
  refine List.forall_mem_cons.mpr ⟨(ek_iv hS gg_67 rfl (by decide) cl_5 (by decide) qt1549 qt1550 qt1551), ?_⟩
  refine List.forall_mem_cons.mpr ⟨(ek_iv hS gg_117 rfl (by decide) cl_7 (by decide) qt1553 qt1555 (lw_all_tbl qs25)), ?_⟩
  refine List.forall_mem_cons.mpr ⟨(ek_getn hS cl_5 (by decide) (by decide) rfl qt475), ?_⟩
  refine List.forall_mem_cons.mpr ⟨(ek_get hS cl_7 (by decide) (by decide) rfl qt708), ?_⟩
  refine List.forall_mem_cons.mpr ⟨(ek_iv hS gg_68 rfl (by decide) cl_5 (by decide) qt1560 qt1561 qt1562), ?_⟩
  refine List.forall_mem_cons.mpr ⟨(ek_is hS gg_439 rfl (by decide) qt1557 qt1558), ?_⟩
  refine List.forall_mem_cons.mpr ⟨(ek_put hS cl_7 (by decide) (by decide) rfl rfl qt706), ?_⟩
  refine List.forall_mem_cons.mpr ⟨(ek_getn hS cl_5 (by decide) (by decide) rfl qt528), ?_⟩
  refine List.forall_mem_cons.mpr ⟨(ek_getn hS cl_5 (by decide) (by decide) rfl qt466), ?_⟩
  refine List.forall_mem_cons.mpr ⟨(ek_getn hS cl_5 (by decide) (by decide) rfl qt540), ?_⟩
  refine List.forall_mem_cons.mpr ⟨(ek_getn hS cl_5 (by decide) (by decide) rfl qt496), ?_⟩
  refine List.forall_mem_cons.mpr ⟨(ek_iv hS gg_119 rfl (by decide) cl_7 (by decide) qt1568 qt1570 (lw_all_tbl qs27)), ?_⟩
  refine List.forall_mem_cons.mpr ⟨(ek_getn hS cl_5 (by decide) (by decide) rfl qt453), ?_⟩
  refine List.forall_mem_cons.mpr ⟨(ek_getn hS cl_5 (by decide) (by decide) rfl qt534), ?_⟩
  refine List.forall_mem_cons.mpr ⟨(ek_getn hS cl_5 (by decide) (by decide) rfl qt546), ?_⟩
  refine List.forall_mem_cons.mpr ⟨(ek_get hS cl_7 (by decide) (by decide) rfl qt706), ?_⟩
  refine List.forall_mem_cons.mpr ⟨(ek_iv hS gg_120 rfl (by decide) cl_7 (by decide) qt1572 qt1574 (lw_all_tbl qs28)), ?_⟩
  refine List.forall_mem_cons.mpr ⟨(ek_iv hS gg_121 rfl (by decide) cl_7 (by decide) qt1593 qt1595 (lw_all_tbl qs29)), ?_⟩
  refine List.forall_mem_cons.mpr ⟨(ek_iv hS gg_123 rfl (by decide) cl_7 (by decide) qt1601 qt1603 (lw_all_tbl qs31)), ?_⟩
  refine List.forall_mem_cons.mpr ⟨(ek_iv hS gg_124 rfl (by decide) cl_7 (by decide) qt1605 qt1607 (lw_all_tbl qs32)), ?_⟩
  refine List.forall_mem_cons.mpr ⟨(ek_iv hS gg_125 rfl (by decide) cl_7 (by decide) qt1609 qt1611 (lw_all_tbl qs33)), ?_⟩
  refine List.forall_mem_cons.mpr ⟨(ek_iv hS gg_69 rfl (by decide) cl_5 (by decide) qt1576 qt1577 qt1578), ?_⟩
  refine List.forall_mem_cons.mpr ⟨(ek_get hS cl_7 (by decide) (by decide) rfl qt711), ?_⟩
  refine List.forall_mem_cons.mpr ⟨(ek_iv hS gg_70 rfl (by decide) cl_5 (by decide) qt1580 qt1581 qt1582), ?_⟩
  refine List.forall_mem_cons.mpr ⟨(ek_iv hS gg_71 rfl (by decide) cl_5 (by decide) qt1584 qt1585 qt1586), ?_⟩
  refine List.forall_mem_cons.mpr ⟨(ek_getn hS cl_5 (by decide) (by decide) rfl qt462), ?_⟩
  refine List.forall_mem_cons.mpr ⟨(ek_getn hS cl_5 (by decide) (by decide) rfl qt483), ?_⟩
  refine List.forall_mem_cons.mpr ⟨(ek_getn hS cl_5 (by decide) (by decide) rfl qt487), ?_⟩
  refine List.forall_mem_cons.mpr ⟨(ek_put hS cl_7 (by decide) (by decide) rfl rfl qt710), ?_⟩
  refine List.forall_mem_cons.mpr ⟨(ek_get hS cl_7 (by decide) (by decide) rfl qt713), ?_⟩
  refine List.forall_mem_cons.mpr ⟨(ek_iv hS gg_126 rfl (by decide) cl_7 (by decide) qt1613 qt1615 (lw_all_tbl qs34)), ?_⟩
  refine List.forall_mem_cons.mpr ⟨(ek_iv hS gg_131 rfl (by decide) cl_7 (by decide) qt1633 qt1635 (lw_all_tbl qs39)), ?_⟩
  refine List.forall_mem_cons.mpr ⟨(ek_get hS cl_7 (by decide) (by decide) rfl qt710), ?_⟩
  refine List.forall_mem_cons.mpr ⟨(ek_iv hS gg_136 rfl (by decide) cl_7 (by decide) qt1684 qt1686 (lw_all_tbl qs45)), ?_⟩
  refine List.forall_mem_cons.mpr ⟨(ek_getn hS cl_5 (by decide) (by decide) rfl qt434), ?_⟩
  refine List.forall_mem_cons.mpr ⟨(ek_iv hS gg_127 rfl (by decide) cl_7 (by decide) qt1617 qt1619 (lw_all_tbl qs35)), ?_⟩
  exact fun q h => absurd h List.not_mem_nil
def RT_X7_2 : List (Instr × Nat × Nat × Nat) := [(.invokevirtual 234, 138, 5, 7), (.invokevirtual 237, 128, 1, 7), (.invokevirtual 240, 129, 1, 7), (.invokevirtual 243, 130, 1, 7), (.invokevirtual 246, 137, 1, 7), (.invokevirtual 250, 132, 1, 7), (.getfield 11, 7, 10, 0), (.invokevirtual 253, 61, 2, 4), (.invokevirtual 256, 133, 3, 7), (.invokevirtual 259, 134, 1, 7), (.invokevirtual 262, 73, 3, 5), (.invokevirtual 265, 135, 2, 7), (.putfield 196, 7, 9, 0), (.getfield 268, 5, 4, 1), (.getfield 271, 5, 7, 1), (.invokevirtual 274, 72, 4, 5), (.getfield 17, 7, 12, 0), (.getfield 173, 5, 8, 1), (.getfield 176, 5, 1, 1)]
set_option maxRecDepth 100000 in
set_option maxHeartbeats 4000000 in
theorem rt_X7_2 (hS : pv_ST B sa xv H0 args s) : ∀ q ∈ RT_X7_2, pv_EK (mkE B sa xv D cA H0) (PP L xs) GG "RegionHouse$Reader" q args s := by
  skip
  refine List.forall_mem_cons.mpr ⟨(ek_iv hS gg_138 rfl (by decide) cl_7 (by decide) qt1692 qt1694 (lw_all_tbl qs47)), ?_⟩
  refine List.forall_mem_cons.mpr ⟨(ek_iv hS gg_128 rfl (by decide) cl_7 (by decide) qt1621 qt1623 (lw_all_tbl qs36)), ?_⟩
  refine List.forall_mem_cons.mpr ⟨(ek_iv hS gg_129 rfl (by decide) cl_7 (by decide) qt1625 qt1627 (lw_all_tbl qs37)), ?_⟩
  refine List.forall_mem_cons.mpr ⟨(ek_iv hS gg_130 rfl (by decide) cl_7 (by decide) qt1629 qt1631 (lw_all_tbl qs38)), ?_⟩
  refine List.forall_mem_cons.mpr ⟨(ek_iv hS gg_137 rfl (by decide) cl_7 (by decide) qt1688 qt1690 (lw_all_tbl qs46)), ?_⟩
  refine List.forall_mem_cons.mpr ⟨(ek_iv hS gg_132 rfl (by decide) cl_7 (by decide) qt1637 qt1639 (lw_all_tbl qs40)), ?_⟩
  refine List.forall_mem_cons.mpr ⟨(ek_get hS cl_7 (by decide) (by decide) rfl qt712), ?_⟩
  refine List.forall_mem_cons.mpr ⟨(ek_iv hS gg_61 rfl (by decide) cl_4 (by decide) qt1641 qt1642 qt1643), ?_⟩
  refine List.forall_mem_cons.mpr ⟨(ek_iv hS gg_133 rfl (by decide) cl_7 (by decide) qt1645 qt1647 (lw_all_tbl qs41)), ?_⟩
  refine List.forall_mem_cons.mpr ⟨(ek_iv hS gg_134 rfl (by decide) cl_7 (by decide) qt1649 qt1651 (lw_all_tbl qs42)), ?_⟩
  refine List.forall_mem_cons.mpr ⟨(ek_iv hS gg_73 rfl (by decide) cl_5 (by decide) qt1653 qt1654 qt1655), ?_⟩
  refine List.forall_mem_cons.mpr ⟨(ek_iv hS gg_135 rfl (by decide) cl_7 (by decide) qt1679 qt1681 (lw_all_tbl qs44)), ?_⟩
  refine List.forall_mem_cons.mpr ⟨(ek_put hS cl_7 (by decide) (by decide) rfl rfl qt711), ?_⟩
  refine List.forall_mem_cons.mpr ⟨(ek_getn hS cl_5 (by decide) (by decide) rfl qt439), ?_⟩
  refine List.forall_mem_cons.mpr ⟨(ek_getn hS cl_5 (by decide) (by decide) rfl qt448), ?_⟩
  refine List.forall_mem_cons.mpr ⟨(ek_iv hS gg_72 rfl (by decide) cl_5 (by decide) qt1683 qt1589 qt1590), ?_⟩
  refine List.forall_mem_cons.mpr ⟨(ek_get hS cl_7 (by decide) (by decide) rfl qt714), ?_⟩
  refine List.forall_mem_cons.mpr ⟨(ek_getn hS cl_5 (by decide) (by decide) rfl qt450), ?_⟩
  refine List.forall_mem_cons.mpr ⟨(ek_getn hS cl_5 (by decide) (by decide) rfl qt428), ?_⟩
  exact fun q h => absurd h List.not_mem_nil
def RT_X7 : List (Instr × Nat × Nat × Nat) := RT_X7_0 ++ (RT_X7_1 ++ (RT_X7_2))
theorem rt_X7 (hS : pv_ST B sa xv H0 args s) : ∀ q ∈ RT_X7, pv_EK (mkE B sa xv D cA H0) (PP L xs) GG "RegionHouse$Reader" q args s := List.forall_mem_append.mpr ⟨rt_X7_0 hS, List.forall_mem_append.mpr ⟨rt_X7_1 hS, rt_X7_2 hS⟩⟩
def RT_X8_0 : List (Instr × Nat × Nat × Nat) := [(.invokespecial 3, 0, 0, 2), (.newarray .int, 0, 0, 0), (.putfield 11, 8, 4, 0), (.putfield 17, 8, 5, 0), (.putfield 20, 8, 6, 0), (.putfield 23, 8, 7, 0), (.putfield 26, 8, 8, 0), (.putfield 29, 8, 10, 0), (.putfield 32, 8, 11, 0), (.putfield 35, 8, 12, 0), (.putfield 38, 8, 0, 0), (.putfield 42, 8, 1, 0), (.putfield 46, 8, 2, 0), (.putfield 50, 8, 3, 0), (.getfield 46, 8, 2, 0), (.invokevirtual 54, 78, 1, 6), (.putfield 59, 8, 9, 0), (.putfield 63, 8, 13, 0), (.getfield 42, 8, 1, 0), (.getfield 104, 5, 34, 1), (.getfield 69, 5, 32, 1), (.getfield 17, 8, 5, 0), (.getfield 66, 5, 33, 1), (.invokevirtual 107, 81, 1, 6), (.getfield 20, 8, 6, 0), (.getfield 111, 5, 36, 1), (.getfield 114, 5, 37, 1), (.getfield 117, 5, 22, 1), (.getfield 120, 5, 35, 1), (.getfield 123, 5, 0, 1), (.getfield 72, 5, 11, 1), (.invokevirtual 126, 143, 2, 8), (.invokevirtual 130, 147, 3, 8), (.getfield 11, 8, 4, 0), (.invokevirtual 134, 149, 3, 8), (.getfield 23, 8, 7, 0), (.getfield 59, 8, 9, 0), (.invokevirtual 137, 82, 1, 6), (.invokevirtual 140, 144, 3, 8), (.invokevirtual 143, 83, 2, 6)]
set_option maxRecDepth 100000 in
set_option maxHeartbeats 4000000 in
theorem rt_X8_0 (hS : pv_ST B sa xv H0 args s) : ∀ q ∈ RT_X8_0, pv_EK (mkE B sa xv D cA H0) (PP L xs) GG "RegionHouse$Typing" q args s := by
  skip
  refine List.forall_mem_cons.mpr ⟨(ek_obj hS qt747 qt282 qt283), ?_⟩
  refine List.forall_mem_cons.mpr ⟨(ek_newa hS qt412), ?_⟩
  refine List.forall_mem_cons.mpr ⟨(ek_putf hS cl_8 (by decide) (by decide) rfl rfl qt752), ?_⟩
  refine List.forall_mem_cons.mpr ⟨(ek_putf hS cl_8 (by decide) (by decide) rfl rfl qt753), ?_⟩
  refine List.forall_mem_cons.mpr ⟨(ek_putf hS cl_8 (by decide) (by decide) rfl rfl qt754), ?_⟩
  refine List.forall_mem_cons.mpr ⟨(ek_putf hS cl_8 (by decide) (by decide) rfl rfl qt755), ?_⟩
  refine List.forall_mem_cons.mpr ⟨(ek_put hS cl_8 (by decide) (by decide) rfl rfl qt756), ?_⟩
  refine List.forall_mem_cons.mpr ⟨(ek_putf hS cl_8 (by decide) (by decide) rfl rfl qt758), ?_⟩
  refine List.forall_mem_cons.mpr ⟨(ek_putf hS cl_8 (by decide) (by decide) rfl rfl qt759), ?_⟩
  refine List.forall_mem_cons.mpr ⟨(ek_put hS cl_8 (by decide) (by decide) rfl rfl qt760), ?_⟩
  refine List.forall_mem_cons.mpr ⟨(ek_putf hS cl_8 (by decide) (by decide) rfl rfl qt748), ?_⟩
  refine List.forall_mem_cons.mpr ⟨(ek_putf hS cl_8 (by decide) (by decide) rfl rfl qt749), ?_⟩
  refine List.forall_mem_cons.mpr ⟨(ek_putf hS cl_8 (by decide) (by decide) rfl rfl qt750), ?_⟩
  refine List.forall_mem_cons.mpr ⟨(ek_putf hS cl_8 (by decide) (by decide) rfl rfl qt751), ?_⟩
  refine List.forall_mem_cons.mpr ⟨(ek_get hS cl_8 (by decide) (by decide) rfl qt750), ?_⟩
  refine List.forall_mem_cons.mpr ⟨(ek_iv hS gg_78 rfl (by decide) cl_6 (by decide) qt1704 qt1705 qt1706), ?_⟩
  refine List.forall_mem_cons.mpr ⟨(ek_put hS cl_8 (by decide) (by decide) rfl rfl qt757), ?_⟩
  refine List.forall_mem_cons.mpr ⟨(ek_put hS cl_8 (by decide) (by decide) rfl rfl qt761), ?_⟩
  refine List.forall_mem_cons.mpr ⟨(ek_get hS cl_8 (by decide) (by decide) rfl qt749), ?_⟩
  refine List.forall_mem_cons.mpr ⟨(ek_getn hS cl_5 (by decide) (by decide) rfl qt526), ?_⟩
  refine List.forall_mem_cons.mpr ⟨(ek_getn hS cl_5 (by decide) (by decide) rfl qt511), ?_⟩
  refine List.forall_mem_cons.mpr ⟨(ek_get hS cl_8 (by decide) (by decide) rfl qt753), ?_⟩
  refine List.forall_mem_cons.mpr ⟨(ek_getn hS cl_5 (by decide) (by decide) rfl qt519), ?_⟩
  refine List.forall_mem_cons.mpr ⟨(ek_iv hS gg_81 rfl (by decide) cl_6 (by decide) qt1725 qt1726 qt1727), ?_⟩
  refine List.forall_mem_cons.mpr ⟨(ek_get hS cl_8 (by decide) (by decide) rfl qt754), ?_⟩
  refine List.forall_mem_cons.mpr ⟨(ek_getn hS cl_5 (by decide) (by decide) rfl qt538), ?_⟩
  refine List.forall_mem_cons.mpr ⟨(ek_getn hS cl_5 (by decide) (by decide) rfl qt544), ?_⟩
  refine List.forall_mem_cons.mpr ⟨(ek_getn hS cl_5 (by decide) (by decide) rfl qt486), ?_⟩
  refine List.forall_mem_cons.mpr ⟨(ek_getn hS cl_5 (by decide) (by decide) rfl qt533), ?_⟩
  refine List.forall_mem_cons.mpr ⟨(ek_getn hS cl_5 (by decide) (by decide) rfl qt422), ?_⟩
  refine List.forall_mem_cons.mpr ⟨(ek_getn hS cl_5 (by decide) (by decide) rfl qt458), ?_⟩
  refine List.forall_mem_cons.mpr ⟨(ek_iv hS gg_143 rfl (by decide) cl_8 (by decide) qt1729 qt1731 (lw_all_tbl qs50)), ?_⟩
  refine List.forall_mem_cons.mpr ⟨(ek_iv hS gg_147 rfl (by decide) cl_8 (by decide) qt1783 qt1785 (lw_all_tbl qs54)), ?_⟩
  refine List.forall_mem_cons.mpr ⟨(ek_get hS cl_8 (by decide) (by decide) rfl qt752), ?_⟩
  refine List.forall_mem_cons.mpr ⟨(ek_iv hS gg_149 rfl (by decide) cl_8 (by decide) qt1804 qt1806 (lw_all_tbl qs56)), ?_⟩
  refine List.forall_mem_cons.mpr ⟨(ek_get hS cl_8 (by decide) (by decide) rfl qt755), ?_⟩
  refine List.forall_mem_cons.mpr ⟨(ek_get hS cl_8 (by decide) (by decide) rfl qt757), ?_⟩
  refine List.forall_mem_cons.mpr ⟨(ek_iv hS gg_82 rfl (by decide) cl_6 (by decide) qt1733 qt1734 qt1735), ?_⟩
  refine List.forall_mem_cons.mpr ⟨(ek_iv hS gg_144 rfl (by decide) cl_8 (by decide) qt1737 qt1738 qt1739), ?_⟩
  refine List.forall_mem_cons.mpr ⟨(ek_iv hS gg_83 rfl (by decide) cl_6 (by decide) qt1741 qt1742 qt1743), ?_⟩
  exact fun q h => absurd h List.not_mem_nil
def RT_X8_1 : List (Instr × Nat × Nat × Nat) := [(.invokevirtual 145, 145, 2, 8), (.getfield 32, 8, 11, 0), (.invokevirtual 148, 146, 3, 8), (.invokevirtual 151, 86, 1, 6), (.getfield 26, 8, 8, 0), (.invokestatic 75, 440, 2, 0), (.getfield 35, 8, 12, 0), (.getfield 29, 8, 10, 0), (.invokevirtual 154, 79, 4, 6), (.invokevirtual 158, 148, 4, 8), (.getfield 161, 5, 4, 1), (.getfield 164, 5, 5, 1), (.invokevirtual 167, 91, 2, 6), (.invokevirtual 170, 92, 2, 6), (.invokevirtual 173, 93, 1, 6), (.getfield 176, 5, 8, 1), (.getfield 179, 5, 9, 1), (.invokevirtual 182, 150, 3, 8), (.invokevirtual 185, 152, 2, 8), (.invokevirtual 96, 94, 3, 6), (.invokevirtual 100, 151, 3, 8), (.getfield 50, 8, 3, 0), (.getfield 38, 8, 0, 0), (.getfield 81, 5, 1, 1), (.invokevirtual 84, 58, 2, 4), (.invokevirtual 90, 45, 3, 3), (.getfield 188, 5, 7, 1), (.getfield 63, 8, 13, 0)]
set_option maxRecDepth 100000 in
set_option maxHeartbeats 4000000 in
theorem rt_X8_1 (hS : pv_ST B sa xv H0 args s) : ∀ q ∈ RT_X8_1, pv_EK (mkE B sa xv D cA H0) (PP L xs) GG "RegionHouse$Typing" q args s := by
  skip
  refine List.forall_mem_cons.mpr ⟨(ek_iv hS gg_145 rfl (by decide) cl_8 (by decide) qt1753 qt1755 (lw_all_tbl qs52)), ?_⟩
  refine List.forall_mem_cons.mpr ⟨(ek_get hS cl_8 (by decide) (by decide) rfl qt759), ?_⟩
  refine List.forall_mem_cons.mpr ⟨(ek_iv hS gg_146 rfl (by decide) cl_8 (by decide) qt1758 qt1759 qt1760), ?_⟩
  refine List.forall_mem_cons.mpr ⟨(ek_iv hS gg_86 rfl (by decide) cl_6 (by decide) qt1762 qt1763 qt1764), ?_⟩
  refine List.forall_mem_cons.mpr ⟨(ek_get hS cl_8 (by decide) (by decide) rfl qt756), ?_⟩
  refine List.forall_mem_cons.mpr ⟨(ek_is hS gg_440 rfl (by decide) qt1757 qt1666), ?_⟩
  refine List.forall_mem_cons.mpr ⟨(ek_get hS cl_8 (by decide) (by decide) rfl qt760), ?_⟩
  refine List.forall_mem_cons.mpr ⟨(ek_get hS cl_8 (by decide) (by decide) rfl qt758), ?_⟩
  refine List.forall_mem_cons.mpr ⟨(ek_iv hS gg_79 rfl (by decide) cl_6 (by decide) qt1787 qt1709 qt1710), ?_⟩
  refine List.forall_mem_cons.mpr ⟨(ek_iv hS gg_148 rfl (by decide) cl_8 (by decide) qt1788 qt1790 (lw_all_tbl qs55)), ?_⟩
  refine List.forall_mem_cons.mpr ⟨(ek_getn hS cl_5 (by decide) (by decide) rfl qt438), ?_⟩
  refine List.forall_mem_cons.mpr ⟨(ek_getn hS cl_5 (by decide) (by decide) rfl qt442), ?_⟩
  refine List.forall_mem_cons.mpr ⟨(ek_iv hS gg_91 rfl (by decide) cl_6 (by decide) qt1792 qt1793 qt1794), ?_⟩
  refine List.forall_mem_cons.mpr ⟨(ek_iv hS gg_92 rfl (by decide) cl_6 (by decide) qt1796 qt1797 qt1798), ?_⟩
  refine List.forall_mem_cons.mpr ⟨(ek_iv hS gg_93 rfl (by decide) cl_6 (by decide) qt1800 qt1801 qt1802), ?_⟩
  refine List.forall_mem_cons.mpr ⟨(ek_getn hS cl_5 (by decide) (by decide) rfl qt451), ?_⟩
  refine List.forall_mem_cons.mpr ⟨(ek_getn hS cl_5 (by decide) (by decide) rfl qt454), ?_⟩
  refine List.forall_mem_cons.mpr ⟨(ek_iv hS gg_150 rfl (by decide) cl_8 (by decide) qt1808 qt1810 (lw_all_tbl qs57)), ?_⟩
  refine List.forall_mem_cons.mpr ⟨(ek_iv hS gg_152 rfl (by decide) cl_8 (by decide) qt1834 qt1836 (lw_all_tbl qs62)), ?_⟩
  refine List.forall_mem_cons.mpr ⟨(ek_iv hS gg_94 rfl (by decide) cl_6 (by decide) qt1812 qt1813 qt1814), ?_⟩
  refine List.forall_mem_cons.mpr ⟨(ek_iv hS gg_151 rfl (by decide) cl_8 (by decide) qt1828 qt1830 (lw_all_tbl qs61)), ?_⟩
  refine List.forall_mem_cons.mpr ⟨(ek_get hS cl_8 (by decide) (by decide) rfl qt751), ?_⟩
  refine List.forall_mem_cons.mpr ⟨(ek_get hS cl_8 (by decide) (by decide) rfl qt748), ?_⟩
  refine List.forall_mem_cons.mpr ⟨(ek_getn hS cl_5 (by decide) (by decide) rfl qt426), ?_⟩
  refine List.forall_mem_cons.mpr ⟨(ek_iv hS gg_58 rfl (by decide) cl_4 (by decide) qt1832 qt1513 qt1514), ?_⟩
  refine List.forall_mem_cons.mpr ⟨(ek_iv hS gg_45 rfl (by decide) cl_3 (by decide) qt1833 qt1415 qt1416), ?_⟩
  refine List.forall_mem_cons.mpr ⟨(ek_getn hS cl_5 (by decide) (by decide) rfl qt447), ?_⟩
  refine List.forall_mem_cons.mpr ⟨(ek_get hS cl_8 (by decide) (by decide) rfl qt761), ?_⟩
  exact fun q h => absurd h List.not_mem_nil
def RT_X8 : List (Instr × Nat × Nat × Nat) := RT_X8_0 ++ (RT_X8_1)
theorem rt_X8 (hS : pv_ST B sa xv H0 args s) : ∀ q ∈ RT_X8, pv_EK (mkE B sa xv D cA H0) (PP L xs) GG "RegionHouse$Typing" q args s := List.forall_mem_append.mpr ⟨rt_X8_0 hS, rt_X8_1 hS⟩
def RT_X9_0 : List (Instr × Nat × Nat × Nat) := [(.invokespecial 3, 0, 0, 2), (.newarray .int, 0, 0, 0), (.putfield 9, 9, 5, 0), (.putfield 15, 9, 6, 0), (.putfield 20, 9, 8, 0), (.putfield 23, 9, 9, 0), (.putfield 26, 9, 10, 0), (.putfield 29, 9, 11, 0), (.putfield 32, 9, 12, 0), (.putfield 35, 9, 13, 0), (.putfield 38, 9, 15, 0), (.putfield 41, 9, 16, 0), (.putfield 44, 9, 17, 0), (.newarray .boolean, 0, 0, 0), (.putfield 47, 9, 19, 0), (.putfield 51, 9, 0, 0), (.putfield 55, 9, 1, 0), (.putfield 59, 9, 2, 0), (.putfield 63, 9, 3, 0), (.putfield 67, 9, 4, 0), (.getfield 41, 9, 16, 0), (.putfield 71, 9, 7, 0), (.putfield 75, 9, 14, 0), (.putfield 78, 9, 18, 0), (.getfield 71, 9, 7, 0), (.getfield 55, 9, 1, 0), (.getfield 113, 5, 34, 1), (.getfield 116, 5, 35, 1), (.getfield 20, 9, 8, 0), (.getfield 23, 9, 9, 0), (.getfield 119, 5, 0, 1), (.getfield 122, 5, 11, 1), (.invokevirtual 125, 164, 3, 9), (.invokevirtual 128, 166, 3, 9), (.getfield 29, 9, 11, 0), (.getfield 67, 9, 4, 0), (.getfield 51, 9, 0, 0), (.getfield 131, 5, 31, 1), (.invokevirtual 134, 58, 2, 4), (.invokevirtual 139, 45, 3, 3)]
set_option maxRecDepth 100000 in
set_option maxHeartbeats 4000000 in
theorem rt_X9_0 (hS : pv_ST B sa xv H0 args s) : ∀ q ∈ RT_X9_0, pv_EK (mkE B sa xv D cA H0) (PP L xs) GG "RegionHouse$Regions" q args s := by
  skip
  refine List.forall_mem_cons.mpr ⟨(ek_obj hS qt796 qt282 qt283), ?_⟩
  refine List.forall_mem_cons.mpr ⟨(ek_newa hS qt412), ?_⟩
  refine List.forall_mem_cons.mpr ⟨(ek_put hS cl_9 (by decide) (by decide) rfl rfl qt802), ?_⟩
  refine List.forall_mem_cons.mpr ⟨(ek_put hS cl_9 (by decide) (by decide) rfl rfl qt803), ?_⟩
  refine List.forall_mem_cons.mpr ⟨(ek_putf hS cl_9 (by decide) (by decide) rfl rfl qt805), ?_⟩
  refine List.forall_mem_cons.mpr ⟨(ek_putf hS cl_9 (by decide) (by decide) rfl rfl qt806), ?_⟩
  refine List.forall_mem_cons.mpr ⟨(ek_putf hS cl_9 (by decide) (by decide) rfl rfl qt807), ?_⟩
  refine List.forall_mem_cons.mpr ⟨(ek_putf hS cl_9 (by decide) (by decide) rfl rfl qt808), ?_⟩
  refine List.forall_mem_cons.mpr ⟨(ek_put hS cl_9 (by decide) (by decide) rfl rfl qt809), ?_⟩
  refine List.forall_mem_cons.mpr ⟨(ek_put hS cl_9 (by decide) (by decide) rfl rfl qt810), ?_⟩
  refine List.forall_mem_cons.mpr ⟨(ek_putf hS cl_9 (by decide) (by decide) rfl rfl qt812), ?_⟩
  refine List.forall_mem_cons.mpr ⟨(ek_putf hS cl_9 (by decide) (by decide) rfl rfl qt813), ?_⟩
  refine List.forall_mem_cons.mpr ⟨(ek_put hS cl_9 (by decide) (by decide) rfl rfl qt814), ?_⟩
  refine List.forall_mem_cons.mpr ⟨(ek_newa hS qt858), ?_⟩
  refine List.forall_mem_cons.mpr ⟨(ek_putf hS cl_9 (by decide) (by decide) rfl rfl qt816), ?_⟩
  refine List.forall_mem_cons.mpr ⟨(ek_putf hS cl_9 (by decide) (by decide) rfl rfl qt797), ?_⟩
  refine List.forall_mem_cons.mpr ⟨(ek_putf hS cl_9 (by decide) (by decide) rfl rfl qt798), ?_⟩
  refine List.forall_mem_cons.mpr ⟨(ek_putf hS cl_9 (by decide) (by decide) rfl rfl qt799), ?_⟩
  refine List.forall_mem_cons.mpr ⟨(ek_putf hS cl_9 (by decide) (by decide) rfl rfl qt800), ?_⟩
  refine List.forall_mem_cons.mpr ⟨(ek_putf hS cl_9 (by decide) (by decide) rfl rfl qt801), ?_⟩
  refine List.forall_mem_cons.mpr ⟨(ek_get hS cl_9 (by decide) (by decide) rfl qt813), ?_⟩
  refine List.forall_mem_cons.mpr ⟨(ek_put hS cl_9 (by decide) (by decide) rfl rfl qt804), ?_⟩
  refine List.forall_mem_cons.mpr ⟨(ek_put hS cl_9 (by decide) (by decide) rfl rfl qt811), ?_⟩
  refine List.forall_mem_cons.mpr ⟨(ek_put hS cl_9 (by decide) (by decide) rfl rfl qt815), ?_⟩
  refine List.forall_mem_cons.mpr ⟨(ek_get hS cl_9 (by decide) (by decide) rfl qt804), ?_⟩
  refine List.forall_mem_cons.mpr ⟨(ek_get hS cl_9 (by decide) (by decide) rfl qt798), ?_⟩
  refine List.forall_mem_cons.mpr ⟨(ek_getn hS cl_5 (by decide) (by decide) rfl qt525), ?_⟩
  refine List.forall_mem_cons.mpr ⟨(ek_getn hS cl_5 (by decide) (by decide) rfl qt531), ?_⟩
  refine List.forall_mem_cons.mpr ⟨(ek_get hS cl_9 (by decide) (by decide) rfl qt805), ?_⟩
  refine List.forall_mem_cons.mpr ⟨(ek_get hS cl_9 (by decide) (by decide) rfl qt806), ?_⟩
  refine List.forall_mem_cons.mpr ⟨(ek_getn hS cl_5 (by decide) (by decide) rfl qt421), ?_⟩
  refine List.forall_mem_cons.mpr ⟨(ek_getn hS cl_5 (by decide) (by decide) rfl qt460), ?_⟩
  refine List.forall_mem_cons.mpr ⟨(ek_iv hS gg_164 rfl (by decide) cl_9 (by decide) qt1842 qt1844 (lw_all_tbl qs63)), ?_⟩
  refine List.forall_mem_cons.mpr ⟨(ek_iv hS gg_166 rfl (by decide) cl_9 (by decide) qt1863 qt1865 (lw_all_tbl qs65)), ?_⟩
  refine List.forall_mem_cons.mpr ⟨(ek_get hS cl_9 (by decide) (by decide) rfl qt808), ?_⟩
  refine List.forall_mem_cons.mpr ⟨(ek_get hS cl_9 (by decide) (by decide) rfl qt801), ?_⟩
  refine List.forall_mem_cons.mpr ⟨(ek_get hS cl_9 (by decide) (by decide) rfl qt797), ?_⟩
  refine List.forall_mem_cons.mpr ⟨(ek_getn hS cl_5 (by decide) (by decide) rfl qt508), ?_⟩
  refine List.forall_mem_cons.mpr ⟨(ek_iv hS gg_58 rfl (by decide) cl_4 (by decide) qt1876 qt1513 qt1514), ?_⟩
  refine List.forall_mem_cons.mpr ⟨(ek_iv hS gg_45 rfl (by decide) cl_3 (by decide) qt1877 qt1415 qt1416), ?_⟩
  exact fun q h => absurd h List.not_mem_nil
def RT_X9_1 : List (Instr × Nat × Nat × Nat) := [(.invokevirtual 144, 169, 2, 9), (.invokevirtual 148, 170, 3, 9), (.invokevirtual 151, 171, 3, 9), (.invokevirtual 155, 172, 3, 9), (.invokevirtual 158, 173, 2, 9), (.getfield 63, 9, 3, 0), (.invokevirtual 160, 158, 2, 8), (.invokevirtual 163, 174, 3, 9), (.invokevirtual 87, 168, 3, 9), (.invokevirtual 166, 159, 3, 8), (.invokevirtual 169, 176, 2, 9), (.invokevirtual 178, 153, 2, 8), (.invokevirtual 181, 165, 2, 9), (.invokevirtual 183, 154, 2, 8), (.invokevirtual 185, 155, 3, 8), (.getfield 9, 9, 5, 0), (.invokestatic 172, 440, 2, 0), (.getfield 15, 9, 6, 0), (.getfield 26, 9, 10, 0), (.getfield 75, 9, 14, 0), (.invokevirtual 229, 167, 3, 9), (.getfield 32, 9, 12, 0), (.getfield 35, 9, 13, 0), (.getfield 59, 9, 2, 0), (.invokevirtual 81, 84, 2, 6), (.getfield 188, 5, 36, 1), (.getfield 191, 5, 37, 1), (.getfield 194, 5, 23, 1), (.getfield 197, 5, 21, 1), (.getfield 200, 5, 27, 1), (.invokevirtual 203, 156, 2, 8), (.invokevirtual 206, 88, 3, 6), (.getfield 209, 5, 28, 1), (.getfield 212, 5, 10, 1), (.invokevirtual 91, 98, 1, 6), (.ldc 215, 1000000, 0, 0), (.invokevirtual 102, 99, 3, 6), (.getfield 216, 5, 12, 1), (.getfield 219, 5, 17, 1), (.invokevirtual 106, 157, 2, 8)]
set_option maxRecDepth 100000 in
set_option maxHeartbeats 4000000 in
theorem rt_X9_1 (hS : pv_ST B sa xv H0 args s) : ∀ q ∈ RT_X9_1, pv_EK (mkE B sa xv D cA H0) (PP L xs) GG "RegionHouse$Regions" q args s := by
  skip
  refine List.forall_mem_cons.mpr ⟨(ek_iv hS gg_169 rfl (by decide) cl_9 (by decide) qt1878 qt1880 (lw_all_tbl qs66)), ?_⟩
  refine List.forall_mem_cons.mpr ⟨(ek_iv hS gg_170 rfl (by decide) cl_9 (by decide) qt1887 qt1889 (lw_all_tbl qs67)), ?_⟩
  refine List.forall_mem_cons.mpr ⟨(ek_iv hS gg_171 rfl (by decide) cl_9 (by decide) qt1908 qt1910 (lw_all_tbl qs68)), ?_⟩
  refine List.forall_mem_cons.mpr ⟨(ek_iv hS gg_172 rfl (by decide) cl_9 (by decide) qt1912 qt1914 (lw_all_tbl qs69)), ?_⟩
  refine List.forall_mem_cons.mpr ⟨(ek_iv hS gg_173 rfl (by decide) cl_9 (by decide) qt1916 qt1918 (lw_all_tbl qs70)), ?_⟩
  refine List.forall_mem_cons.mpr ⟨(ek_get hS cl_9 (by decide) (by decide) rfl qt800), ?_⟩
  refine List.forall_mem_cons.mpr ⟨(ek_iv hS gg_158 rfl (by decide) cl_8 (by decide) qt1928 qt1929 qt1930), ?_⟩
  refine List.forall_mem_cons.mpr ⟨(ek_iv hS gg_174 rfl (by decide) cl_9 (by decide) qt1920 qt1921 qt1922), ?_⟩
  refine List.forall_mem_cons.mpr ⟨(ek_iv hS gg_168 rfl (by decide) cl_9 (by decide) qt1872 qt1873 qt1874), ?_⟩
  refine List.forall_mem_cons.mpr ⟨(ek_iv hS gg_159 rfl (by decide) cl_8 (by decide) qt1932 qt1933 qt1934), ?_⟩
  refine List.forall_mem_cons.mpr ⟨(ek_iv hS gg_176 rfl (by decide) cl_9 (by decide) qt1936 qt1938 (lw_all_tbl qs72)), ?_⟩
  refine List.forall_mem_cons.mpr ⟨(ek_iv hS gg_153 rfl (by decide) cl_8 (by decide) qt1846 qt1847 qt1848), ?_⟩
  refine List.forall_mem_cons.mpr ⟨(ek_iv hS gg_165 rfl (by decide) cl_9 (by decide) qt1850 qt1852 (lw_all_tbl qs64)), ?_⟩
  refine List.forall_mem_cons.mpr ⟨(ek_iv hS gg_154 rfl (by decide) cl_8 (by decide) qt1855 qt1856 qt1857), ?_⟩
  refine List.forall_mem_cons.mpr ⟨(ek_iv hS gg_155 rfl (by decide) cl_8 (by decide) qt1859 qt1860 qt1861), ?_⟩
  refine List.forall_mem_cons.mpr ⟨(ek_get hS cl_9 (by decide) (by decide) rfl qt802), ?_⟩
  refine List.forall_mem_cons.mpr ⟨(ek_is hS gg_440 rfl (by decide) qt1854 qt1666), ?_⟩
  refine List.forall_mem_cons.mpr ⟨(ek_get hS cl_9 (by decide) (by decide) rfl qt803), ?_⟩
  refine List.forall_mem_cons.mpr ⟨(ek_get hS cl_9 (by decide) (by decide) rfl qt807), ?_⟩
  refine List.forall_mem_cons.mpr ⟨(ek_get hS cl_9 (by decide) (by decide) rfl qt811), ?_⟩
  refine List.forall_mem_cons.mpr ⟨(ek_iv hS gg_167 rfl (by decide) cl_9 (by decide) qt1867 qt1868 qt1869), ?_⟩
  refine List.forall_mem_cons.mpr ⟨(ek_get hS cl_9 (by decide) (by decide) rfl qt809), ?_⟩
  refine List.forall_mem_cons.mpr ⟨(ek_get hS cl_9 (by decide) (by decide) rfl qt810), ?_⟩
  refine List.forall_mem_cons.mpr ⟨(ek_get hS cl_9 (by decide) (by decide) rfl qt799), ?_⟩
  refine List.forall_mem_cons.mpr ⟨(ek_iv hS gg_84 rfl (by decide) cl_6 (by decide) qt1871 qt1746 qt1747), ?_⟩
  refine List.forall_mem_cons.mpr ⟨(ek_getn hS cl_5 (by decide) (by decide) rfl qt537), ?_⟩
  refine List.forall_mem_cons.mpr ⟨(ek_getn hS cl_5 (by decide) (by decide) rfl qt543), ?_⟩
  refine List.forall_mem_cons.mpr ⟨(ek_getn hS cl_5 (by decide) (by decide) rfl qt489), ?_⟩
  refine List.forall_mem_cons.mpr ⟨(ek_getn hS cl_5 (by decide) (by decide) rfl qt482), ?_⟩
  refine List.forall_mem_cons.mpr ⟨(ek_getn hS cl_5 (by decide) (by decide) rfl qt498), ?_⟩
  refine List.forall_mem_cons.mpr ⟨(ek_iv hS gg_156 rfl (by decide) cl_8 (by decide) qt1882 qt1883 qt1884), ?_⟩
  refine List.forall_mem_cons.mpr ⟨(ek_iv hS gg_88 rfl (by decide) cl_6 (by decide) qt1886 qt1772 qt1773), ?_⟩
  refine List.forall_mem_cons.mpr ⟨(ek_getn hS cl_5 (by decide) (by decide) rfl qt501), ?_⟩
  refine List.forall_mem_cons.mpr ⟨(ek_getn hS cl_5 (by decide) (by decide) rfl qt456), ?_⟩
  refine List.forall_mem_cons.mpr ⟨(ek_iv hS gg_98 rfl (by decide) cl_6 (by decide) qt1891 qt1892 qt1893), ?_⟩
  refine List.forall_mem_cons.mpr ⟨(ek_ldc hS qt1895), ?_⟩
  refine List.forall_mem_cons.mpr ⟨(ek_iv hS gg_99 rfl (by decide) cl_6 (by decide) qt1896 qt1897 qt1898), ?_⟩
  refine List.forall_mem_cons.mpr ⟨(ek_getn hS cl_5 (by decide) (by decide) rfl qt464), ?_⟩
  refine List.forall_mem_cons.mpr ⟨(ek_getn hS cl_5 (by decide) (by decide) rfl qt473), ?_⟩
  refine List.forall_mem_cons.mpr ⟨(ek_iv hS gg_157 rfl (by decide) cl_8 (by decide) qt1900 qt1901 qt1902), ?_⟩
  exact fun q h => absurd h List.not_mem_nil
def RT_X9_2 : List (Instr × Nat × Nat × Nat) := [(.invokevirtual 222, 100, 2, 6), (.getfield 226, 5, 4, 1), (.getfield 38, 9, 15, 0), (.getfield 78, 9, 18, 0), (.getfield 47, 9, 19, 0), (.invokevirtual 232, 175, 3, 9), (.getfield 44, 9, 17, 0), (.getfield 247, 5, 1, 1), (.invokevirtual 250, 177, 4, 9), (.getfield 254, 5, 38, 1), (.getfield 257, 5, 33, 1), (.getfield 260, 5, 19, 1), (.getfield 263, 5, 15, 1), (.invokevirtual 266, 178, 2, 9), (.invokevirtual 109, 101, 1, 6), (.invokevirtual 235, 102, 2, 6), (.getfield 94, 5, 32, 1), (.invokevirtual 97, 144, 3, 8), (.invokevirtual 238, 104, 1, 6), (.invokevirtual 241, 105, 1, 6), (.invokevirtual 244, 106, 1, 6)]
set_option maxRecDepth 100000 in
set_option maxHeartbeats 4000000 in
theorem rt_X9_2 (hS : pv_ST B sa xv H0 args s) : ∀ q ∈ RT_X9_2, pv_EK (mkE B sa xv D cA H0) (PP L xs) GG "RegionHouse$Regions" q args s := by
  skip
  refine List.forall_mem_cons.mpr ⟨(ek_iv hS gg_100 rfl (by decide) cl_6 (by decide) qt1904 qt1905 qt1906), ?_⟩
  refine List.forall_mem_cons.mpr ⟨(ek_getn hS cl_5 (by decide) (by decide) rfl qt437), ?_⟩
  refine List.forall_mem_cons.mpr ⟨(ek_get hS cl_9 (by decide) (by decide) rfl qt812), ?_⟩
  refine List.forall_mem_cons.mpr ⟨(ek_get hS cl_9 (by decide) (by decide) rfl qt815), ?_⟩
  refine List.forall_mem_cons.mpr ⟨(ek_get hS cl_9 (by decide) (by decide) rfl qt816), ?_⟩
  refine List.forall_mem_cons.mpr ⟨(ek_iv hS gg_175 rfl (by decide) cl_9 (by decide) qt1924 qt1926 (lw_all_tbl qs71)), ?_⟩
  refine List.forall_mem_cons.mpr ⟨(ek_get hS cl_9 (by decide) (by decide) rfl qt814), ?_⟩
  refine List.forall_mem_cons.mpr ⟨(ek_getn hS cl_5 (by decide) (by decide) rfl qt429), ?_⟩
  refine List.forall_mem_cons.mpr ⟨(ek_iv hS gg_177 rfl (by decide) cl_9 (by decide) qt1940 qt1942 (lw_all_tbl qs73)), ?_⟩
  refine List.forall_mem_cons.mpr ⟨(ek_getn hS cl_5 (by decide) (by decide) rfl qt553), ?_⟩
  refine List.forall_mem_cons.mpr ⟨(ek_getn hS cl_5 (by decide) (by decide) rfl qt522), ?_⟩
  refine List.forall_mem_cons.mpr ⟨(ek_getn hS cl_5 (by decide) (by decide) rfl qt478), ?_⟩
  refine List.forall_mem_cons.mpr ⟨(ek_getn hS cl_5 (by decide) (by decide) rfl qt469), ?_⟩
  refine List.forall_mem_cons.mpr ⟨(ek_iv hS gg_178 rfl (by decide) cl_9 (by decide) qt1948 qt1950 (lw_all_tbl qs74)), ?_⟩
  refine List.forall_mem_cons.mpr ⟨(ek_iv hS gg_101 rfl (by decide) cl_6 (by decide) qt1944 qt1945 qt1946), ?_⟩
  refine List.forall_mem_cons.mpr ⟨(ek_iv hS gg_102 rfl (by decide) cl_6 (by decide) qt1952 qt1953 qt1954), ?_⟩
  refine List.forall_mem_cons.mpr ⟨(ek_getn hS cl_5 (by decide) (by decide) rfl qt512), ?_⟩
  refine List.forall_mem_cons.mpr ⟨(ek_iv hS gg_144 rfl (by decide) cl_8 (by decide) qt1960 qt1738 qt1739), ?_⟩
  refine List.forall_mem_cons.mpr ⟨(ek_iv hS gg_104 rfl (by decide) cl_6 (by decide) qt1961 qt1962 qt1963), ?_⟩
  refine List.forall_mem_cons.mpr ⟨(ek_iv hS gg_105 rfl (by decide) cl_6 (by decide) qt1965 qt1966 qt1967), ?_⟩
  refine List.forall_mem_cons.mpr ⟨(ek_iv hS gg_106 rfl (by decide) cl_6 (by decide) qt1969 qt1970 qt1971), ?_⟩
  exact fun q h => absurd h List.not_mem_nil
def RT_X9 : List (Instr × Nat × Nat × Nat) := RT_X9_0 ++ (RT_X9_1 ++ (RT_X9_2))
theorem rt_X9 (hS : pv_ST B sa xv H0 args s) : ∀ q ∈ RT_X9, pv_EK (mkE B sa xv D cA H0) (PP L xs) GG "RegionHouse$Regions" q args s := List.forall_mem_append.mpr ⟨rt_X9_0 hS, List.forall_mem_append.mpr ⟨rt_X9_1 hS, rt_X9_2 hS⟩⟩
def RT_X10_0 : List (Instr × Nat × Nat × Nat) := [(.invokespecial 3, 0, 0, 2), (.newarray .int, 0, 0, 0), (.putfield 11, 10, 6, 0), (.putfield 17, 10, 7, 0), (.putfield 20, 10, 8, 0), (.putfield 23, 10, 9, 0), (.putfield 26, 10, 10, 0), (.putfield 29, 10, 12, 0), (.putfield 32, 10, 0, 0), (.putfield 36, 10, 1, 0), (.putfield 40, 10, 2, 0), (.putfield 44, 10, 3, 0), (.putfield 48, 10, 4, 0), (.putfield 52, 10, 5, 0), (.getfield 52, 10, 5, 0), (.invokevirtual 80, 38, 1, 2), (.getfield 32, 10, 0, 0), (.invokevirtual 83, 62, 1, 4), (.getfield 11, 10, 6, 0), (.getfield 17, 10, 7, 0), (.getfield 26, 10, 10, 0), (.putfield 66, 10, 14, 0), (.getfield 66, 10, 14, 0), (.getfield 36, 10, 1, 0), (.getfield 89, 5, 38, 1), (.getfield 92, 5, 34, 1), (.getfield 95, 5, 35, 1), (.invokevirtual 98, 184, 2, 10), (.invokevirtual 101, 76, 2, 5), (.invokevirtual 104, 185, 2, 10), (.getfield 23, 10, 9, 0), (.getfield 108, 5, 2, 1), (.putfield 56, 10, 11, 0), (.getfield 111, 5, 31, 1), (.invokevirtual 114, 186, 2, 10), (.getfield 117, 5, 0, 1), (.getfield 120, 5, 1, 1), (.getfield 123, 5, 3, 1), (.getfield 20, 10, 8, 0), (.getfield 48, 10, 4, 0)]
set_option maxRecDepth 100000 in
set_option maxHeartbeats 4000000 in
theorem rt_X10_0 (hS : pv_ST B sa xv H0 args s) : ∀ q ∈ RT_X10_0, pv_EK (mkE B sa xv D cA H0) (PP L xs) GG "RegionHouse$Printer" q args s := by
  skip
  refine List.forall_mem_cons.mpr ⟨(ek_obj hS qt864 qt282 qt283), ?_⟩
  refine List.forall_mem_cons.mpr ⟨(ek_newa hS qt412), ?_⟩
  refine List.forall_mem_cons.mpr ⟨(ek_putf hS cl_10 (by decide) (by decide) rfl rfl qt871), ?_⟩
  refine List.forall_mem_cons.mpr ⟨(ek_putf hS cl_10 (by decide) (by decide) rfl rfl qt872), ?_⟩
  refine List.forall_mem_cons.mpr ⟨(ek_putf hS cl_10 (by decide) (by decide) rfl rfl qt873), ?_⟩
  refine List.forall_mem_cons.mpr ⟨(ek_putf hS cl_10 (by decide) (by decide) rfl rfl qt874), ?_⟩
  refine List.forall_mem_cons.mpr ⟨(ek_putf hS cl_10 (by decide) (by decide) rfl rfl qt875), ?_⟩
  refine List.forall_mem_cons.mpr ⟨(ek_put hS cl_10 (by decide) (by decide) rfl rfl qt877), ?_⟩
  refine List.forall_mem_cons.mpr ⟨(ek_putf hS cl_10 (by decide) (by decide) rfl rfl qt865), ?_⟩
  refine List.forall_mem_cons.mpr ⟨(ek_putf hS cl_10 (by decide) (by decide) rfl rfl qt866), ?_⟩
  refine List.forall_mem_cons.mpr ⟨(ek_putf hS cl_10 (by decide) (by decide) rfl rfl qt867), ?_⟩
  refine List.forall_mem_cons.mpr ⟨(ek_putf hS cl_10 (by decide) (by decide) rfl rfl qt868), ?_⟩
  refine List.forall_mem_cons.mpr ⟨(ek_putf hS cl_10 (by decide) (by decide) rfl rfl qt869), ?_⟩
  refine List.forall_mem_cons.mpr ⟨(ek_putf hS cl_10 (by decide) (by decide) rfl rfl qt870), ?_⟩
  refine List.forall_mem_cons.mpr ⟨(ek_get hS cl_10 (by decide) (by decide) rfl qt870), ?_⟩
  refine List.forall_mem_cons.mpr ⟨(ek_iv hS gg_38 rfl (by decide) cl_2 (by decide) qt2093 qt1209 qt1210), ?_⟩
  refine List.forall_mem_cons.mpr ⟨(ek_get hS cl_10 (by decide) (by decide) rfl qt865), ?_⟩
  refine List.forall_mem_cons.mpr ⟨(ek_iv hS gg_62 rfl (by decide) cl_4 (by decide) qt2094 qt2095 qt2096), ?_⟩
  refine List.forall_mem_cons.mpr ⟨(ek_get hS cl_10 (by decide) (by decide) rfl qt871), ?_⟩
  refine List.forall_mem_cons.mpr ⟨(ek_get hS cl_10 (by decide) (by decide) rfl qt872), ?_⟩
  refine List.forall_mem_cons.mpr ⟨(ek_get hS cl_10 (by decide) (by decide) rfl qt875), ?_⟩
  refine List.forall_mem_cons.mpr ⟨(ek_put hS cl_10 (by decide) (by decide) rfl rfl qt879), ?_⟩
  refine List.forall_mem_cons.mpr ⟨(ek_get hS cl_10 (by decide) (by decide) rfl qt879), ?_⟩
  refine List.forall_mem_cons.mpr ⟨(ek_get hS cl_10 (by decide) (by decide) rfl qt866), ?_⟩
  refine List.forall_mem_cons.mpr ⟨(ek_getn hS cl_5 (by decide) (by decide) rfl qt548), ?_⟩
  refine List.forall_mem_cons.mpr ⟨(ek_getn hS cl_5 (by decide) (by decide) rfl qt524), ?_⟩
  refine List.forall_mem_cons.mpr ⟨(ek_getn hS cl_5 (by decide) (by decide) rfl qt530), ?_⟩
  refine List.forall_mem_cons.mpr ⟨(ek_iv hS gg_184 rfl (by decide) cl_10 (by decide) qt2098 qt2100 (lw_all_tbl qs89)), ?_⟩
  refine List.forall_mem_cons.mpr ⟨(ek_iv hS gg_76 rfl (by decide) cl_5 (by decide) qt2108 qt1978 qt1979), ?_⟩
  refine List.forall_mem_cons.mpr ⟨(ek_iv hS gg_185 rfl (by decide) cl_10 (by decide) qt2102 qt2104 (lw_all_tbl qs90)), ?_⟩
  refine List.forall_mem_cons.mpr ⟨(ek_get hS cl_10 (by decide) (by decide) rfl qt874), ?_⟩
  refine List.forall_mem_cons.mpr ⟨(ek_getn hS cl_5 (by decide) (by decide) rfl qt431), ?_⟩
  refine List.forall_mem_cons.mpr ⟨(ek_put hS cl_10 (by decide) (by decide) rfl rfl qt876), ?_⟩
  refine List.forall_mem_cons.mpr ⟨(ek_getn hS cl_5 (by decide) (by decide) rfl qt507), ?_⟩
  refine List.forall_mem_cons.mpr ⟨(ek_iv hS gg_186 rfl (by decide) cl_10 (by decide) qt2109 qt2111 (lw_all_tbl qs91)), ?_⟩
  refine List.forall_mem_cons.mpr ⟨(ek_getn hS cl_5 (by decide) (by decide) rfl qt420), ?_⟩
  refine List.forall_mem_cons.mpr ⟨(ek_getn hS cl_5 (by decide) (by decide) rfl qt425), ?_⟩
  refine List.forall_mem_cons.mpr ⟨(ek_getn hS cl_5 (by decide) (by decide) rfl qt433), ?_⟩
  refine List.forall_mem_cons.mpr ⟨(ek_get hS cl_10 (by decide) (by decide) rfl qt873), ?_⟩
  refine List.forall_mem_cons.mpr ⟨(ek_get hS cl_10 (by decide) (by decide) rfl qt869), ?_⟩
  exact fun q h => absurd h List.not_mem_nil
def RT_X10_1 : List (Instr × Nat × Nat × Nat) := [(.invokevirtual 70, 179, 2, 9), (.invokevirtual 76, 174, 3, 9), (.ldc 126, 14, 0, 1), (.invokevirtual 128, 187, 3, 10), (.invokevirtual 132, 188, 1, 10), (.invokevirtual 135, 63, 3, 4), (.invokevirtual 60, 34, 2, 2), (.invokevirtual 139, 189, 3, 10), (.invokevirtual 143, 190, 2, 10), (.ldc 146, 15, 0, 1), (.invokevirtual 148, 39, 2, 2), (.getfield 56, 10, 11, 0), (.invokevirtual 151, 40, 2, 2), (.invokevirtual 154, 191, 2, 10), (.getfield 44, 10, 3, 0), (.invokevirtual 157, 153, 2, 8), (.invokevirtual 162, 167, 3, 9), (.getfield 165, 5, 11, 1), (.invokevirtual 168, 161, 2, 9), (.invokevirtual 171, 180, 3, 9), (.invokevirtual 173, 154, 2, 8), (.invokevirtual 175, 146, 3, 8), (.invokevirtual 178, 155, 3, 8), (.putfield 180, 10, 13, 0), (.getfield 183, 5, 32, 1), (.ldc 186, 13, 0, 1), (.invokevirtual 188, 144, 3, 8), (.invokevirtual 191, 193, 2, 10), (.ldc 193, 16, 0, 1), (.invokevirtual 195, 157, 2, 8), (.invokevirtual 198, 35, 1, 2), (.getfield 40, 10, 2, 0), (.invokevirtual 202, 89, 2, 6), (.ldc 207, 17, 0, 1), (.invokevirtual 209, 84, 2, 6), (.invokevirtual 212, 194, 2, 10), (.invokevirtual 215, 91, 2, 6), (.ldc 218, 18, 0, 1), (.ldc 220, 19, 0, 1), (.invokevirtual 222, 92, 2, 6)]
set_option maxRecDepth 100000 in
set_option maxHeartbeats 4000000 in
theorem rt_X10_1 (hS : pv_ST B sa xv H0 args s) : ∀ q ∈ RT_X10_1, pv_EK (mkE B sa xv D cA H0) (PP L xs) GG "RegionHouse$Printer" q args s := by
  skip
  refine List.forall_mem_cons.mpr ⟨(ek_iv hS gg_179 rfl (by decide) cl_9 (by decide) qt2106 qt1991 qt1992), ?_⟩
  refine List.forall_mem_cons.mpr ⟨(ek_iv hS gg_174 rfl (by decide) cl_9 (by decide) qt2107 qt1921 qt1922), ?_⟩
  refine List.forall_mem_cons.mpr ⟨(ek_lds hS (k := 15) rfl (by decide)), ?_⟩
  refine List.forall_mem_cons.mpr ⟨(ek_iv hS gg_187 rfl (by decide) cl_10 (by decide) qt2114 qt2116 (lw_all_tbl qs92)), ?_⟩
  refine List.forall_mem_cons.mpr ⟨(ek_iv hS gg_188 rfl (by decide) cl_10 (by decide) qt2118 qt2120 (lw_all_tbl qs93)), ?_⟩
  refine List.forall_mem_cons.mpr ⟨(ek_iv hS gg_63 rfl (by decide) cl_4 (by decide) qt2141 qt2142 qt2143), ?_⟩
  refine List.forall_mem_cons.mpr ⟨(ek_iv hS gg_34 rfl (by decide) cl_2 (by decide) qt2122 qt1173 qt1174), ?_⟩
  refine List.forall_mem_cons.mpr ⟨(ek_iv hS gg_189 rfl (by decide) cl_10 (by decide) qt2130 qt2132 (lw_all_tbl qs94)), ?_⟩
  refine List.forall_mem_cons.mpr ⟨(ek_iv hS gg_190 rfl (by decide) cl_10 (by decide) qt2146 qt2148 (lw_all_tbl qs95)), ?_⟩
  refine List.forall_mem_cons.mpr ⟨(ek_lds hS (k := 16) rfl (by decide)), ?_⟩
  refine List.forall_mem_cons.mpr ⟨(ek_iv hS gg_39 rfl (by decide) cl_2 (by decide) qt2123 qt2124 qt2125), ?_⟩
  refine List.forall_mem_cons.mpr ⟨(ek_get hS cl_10 (by decide) (by decide) rfl qt876), ?_⟩
  refine List.forall_mem_cons.mpr ⟨(ek_iv hS gg_40 rfl (by decide) cl_2 (by decide) qt2134 qt2135 qt2136), ?_⟩
  refine List.forall_mem_cons.mpr ⟨(ek_iv hS gg_191 rfl (by decide) cl_10 (by decide) qt2150 qt2152 (lw_all_tbl qs96)), ?_⟩
  refine List.forall_mem_cons.mpr ⟨(ek_get hS cl_10 (by decide) (by decide) rfl qt868), ?_⟩
  refine List.forall_mem_cons.mpr ⟨(ek_iv hS gg_153 rfl (by decide) cl_8 (by decide) qt2158 qt1847 qt1848), ?_⟩
  refine List.forall_mem_cons.mpr ⟨(ek_iv hS gg_167 rfl (by decide) cl_9 (by decide) qt2157 qt1868 qt1869), ?_⟩
  refine List.forall_mem_cons.mpr ⟨(ek_getn hS cl_5 (by decide) (by decide) rfl qt459), ?_⟩
  refine List.forall_mem_cons.mpr ⟨(ek_iv hS gg_161 rfl (by decide) cl_9 (by decide) qt2159 qt1323 qt1324), ?_⟩
  refine List.forall_mem_cons.mpr ⟨(ek_iv hS gg_180 rfl (by decide) cl_9 (by decide) qt2160 qt2161 qt2162), ?_⟩
  refine List.forall_mem_cons.mpr ⟨(ek_iv hS gg_154 rfl (by decide) cl_8 (by decide) qt2154 qt1856 qt1857), ?_⟩
  refine List.forall_mem_cons.mpr ⟨(ek_iv hS gg_146 rfl (by decide) cl_8 (by decide) qt2155 qt1759 qt1760), ?_⟩
  refine List.forall_mem_cons.mpr ⟨(ek_iv hS gg_155 rfl (by decide) cl_8 (by decide) qt2156 qt1860 qt1861), ?_⟩
  refine List.forall_mem_cons.mpr ⟨(ek_put hS cl_10 (by decide) (by decide) rfl rfl qt878), ?_⟩
  refine List.forall_mem_cons.mpr ⟨(ek_getn hS cl_5 (by decide) (by decide) rfl qt513), ?_⟩
  refine List.forall_mem_cons.mpr ⟨(ek_lds hS (k := 17) rfl (by decide)), ?_⟩
  refine List.forall_mem_cons.mpr ⟨(ek_iv hS gg_144 rfl (by decide) cl_8 (by decide) qt2231 qt1738 qt1739), ?_⟩
  refine List.forall_mem_cons.mpr ⟨(ek_iv hS gg_193 rfl (by decide) cl_10 (by decide) qt2232 qt2234 (lw_all_tbl qs98)), ?_⟩
  refine List.forall_mem_cons.mpr ⟨(ek_lds hS (k := 18) rfl (by decide)), ?_⟩
  refine List.forall_mem_cons.mpr ⟨(ek_iv hS gg_157 rfl (by decide) cl_8 (by decide) qt2250 qt1901 qt1902), ?_⟩
  refine List.forall_mem_cons.mpr ⟨(ek_iv hS gg_35 rfl (by decide) cl_2 (by decide) qt2236 qt1177 qt1178), ?_⟩
  refine List.forall_mem_cons.mpr ⟨(ek_get hS cl_10 (by decide) (by decide) rfl qt867), ?_⟩
  refine List.forall_mem_cons.mpr ⟨(ek_iv hS gg_89 rfl (by decide) cl_6 (by decide) qt2237 qt1776 qt1777), ?_⟩
  refine List.forall_mem_cons.mpr ⟨(ek_lds hS (k := 19) rfl (by decide)), ?_⟩
  refine List.forall_mem_cons.mpr ⟨(ek_iv hS gg_84 rfl (by decide) cl_6 (by decide) qt2239 qt1746 qt1747), ?_⟩
  refine List.forall_mem_cons.mpr ⟨(ek_iv hS gg_194 rfl (by decide) cl_10 (by decide) qt2240 qt2242 (lw_all_tbl qs99)), ?_⟩
  refine List.forall_mem_cons.mpr ⟨(ek_iv hS gg_91 rfl (by decide) cl_6 (by decide) qt2245 qt1793 qt1794), ?_⟩
  refine List.forall_mem_cons.mpr ⟨(ek_lds hS (k := 20) rfl (by decide)), ?_⟩
  refine List.forall_mem_cons.mpr ⟨(ek_lds hS (k := 21) rfl (by decide)), ?_⟩
  refine List.forall_mem_cons.mpr ⟨(ek_iv hS gg_92 rfl (by decide) cl_6 (by decide) qt2248 qt1797 qt1798), ?_⟩
  exact fun q h => absurd h List.not_mem_nil
def RT_X10_2 : List (Instr × Nat × Nat × Nat) := [(.getfield 180, 10, 13, 0), (.getfield 29, 10, 12, 0), (.invokestatic 225, 440, 2, 0)]
set_option maxRecDepth 100000 in
set_option maxHeartbeats 4000000 in
theorem rt_X10_2 (hS : pv_ST B sa xv H0 args s) : ∀ q ∈ RT_X10_2, pv_EK (mkE B sa xv D cA H0) (PP L xs) GG "RegionHouse$Printer" q args s := by
  skip
  refine List.forall_mem_cons.mpr ⟨(ek_get hS cl_10 (by decide) (by decide) rfl qt878), ?_⟩
  refine List.forall_mem_cons.mpr ⟨(ek_get hS cl_10 (by decide) (by decide) rfl qt877), ?_⟩
  refine List.forall_mem_cons.mpr ⟨(ek_is hS gg_440 rfl (by decide) qt2244 qt1666), ?_⟩
  exact fun q h => absurd h List.not_mem_nil
def RT_X10 : List (Instr × Nat × Nat × Nat) := RT_X10_0 ++ (RT_X10_1 ++ (RT_X10_2))
theorem rt_X10 (hS : pv_ST B sa xv H0 args s) : ∀ q ∈ RT_X10, pv_EK (mkE B sa xv D cA H0) (PP L xs) GG "RegionHouse$Printer" q args s := List.forall_mem_append.mpr ⟨rt_X10_0 hS, List.forall_mem_append.mpr ⟨rt_X10_1 hS, rt_X10_2 hS⟩⟩
def RT_X11_0 : List (Instr × Nat × Nat × Nat) := [(.invokespecial 3, 0, 0, 2), (.newarray .int, 0, 0, 0), (.putfield 9, 11, 3, 0), (.putfield 17, 11, 5, 0), (.putfield 20, 11, 6, 0), (.putfield 23, 11, 7, 0), (.putfield 26, 11, 8, 0), (.putfield 29, 11, 0, 0), (.putfield 33, 11, 1, 0), (.putfield 37, 11, 2, 0), (.getfield 29, 11, 0, 0), (.getfield 41, 5, 25, 1), (.getfield 37, 11, 2, 0), (.invokevirtual 44, 161, 2, 9), (.putfield 50, 11, 4, 0), (.putfield 67, 11, 9, 0), (.getfield 67, 11, 9, 0), (.getfield 70, 5, 38, 1), (.getfield 17, 11, 5, 0), (.getfield 50, 11, 4, 0), (.putfield 73, 11, 10, 0), (.getfield 76, 5, 32, 1), (.getfield 26, 11, 8, 0), (.getfield 79, 5, 33, 1), (.invokevirtual 82, 76, 2, 5), (.invokevirtual 85, 198, 3, 11), (.invokevirtual 60, 199, 2, 11), (.getfield 88, 5, 36, 1), (.getfield 91, 5, 37, 1), (.getfield 20, 11, 6, 0), (.getfield 23, 11, 7, 0), (.getfield 94, 5, 22, 1), (.getfield 97, 5, 4, 1), (.getfield 100, 5, 21, 1), (.invokevirtual 112, 179, 2, 9), (.invokevirtual 115, 174, 3, 9), (.invokevirtual 64, 200, 3, 11), (.invokevirtual 118, 201, 3, 11), (.getfield 9, 11, 3, 0), (.invokestatic 54, 440, 2, 0)]
set_option maxRecDepth 100000 in
set_option maxHeartbeats 4000000 in
theorem rt_X11_0 (hS : pv_ST B sa xv H0 args s) : ∀ q ∈ RT_X11_0, pv_EK (mkE B sa xv D cA H0) (PP L xs) GG "RegionHouse$Code" q args s := by
  skip
  refine List.forall_mem_cons.mpr ⟨(ek_obj hS qt916 qt282 qt283), ?_⟩
  refine List.forall_mem_cons.mpr ⟨(ek_newa hS qt412), ?_⟩
  refine List.forall_mem_cons.mpr ⟨(ek_put hS cl_11 (by decide) (by decide) rfl rfl qt920), ?_⟩
  refine List.forall_mem_cons.mpr ⟨(ek_putf hS cl_11 (by decide) (by decide) rfl rfl qt922), ?_⟩
  refine List.forall_mem_cons.mpr ⟨(ek_putf hS cl_11 (by decide) (by decide) rfl rfl qt923), ?_⟩
  refine List.forall_mem_cons.mpr ⟨(ek_putf hS cl_11 (by decide) (by decide) rfl rfl qt924), ?_⟩
  refine List.forall_mem_cons.mpr ⟨(ek_putf hS cl_11 (by decide) (by decide) rfl rfl qt925), ?_⟩
  refine List.forall_mem_cons.mpr ⟨(ek_putf hS cl_11 (by decide) (by decide) rfl rfl qt917), ?_⟩
  refine List.forall_mem_cons.mpr ⟨(ek_putf hS cl_11 (by decide) (by decide) rfl rfl qt918), ?_⟩
  refine List.forall_mem_cons.mpr ⟨(ek_putf hS cl_11 (by decide) (by decide) rfl rfl qt919), ?_⟩
  refine List.forall_mem_cons.mpr ⟨(ek_get hS cl_11 (by decide) (by decide) rfl qt917), ?_⟩
  refine List.forall_mem_cons.mpr ⟨(ek_getn hS cl_5 (by decide) (by decide) rfl qt493), ?_⟩
  refine List.forall_mem_cons.mpr ⟨(ek_get hS cl_11 (by decide) (by decide) rfl qt919), ?_⟩
  refine List.forall_mem_cons.mpr ⟨(ek_iv hS gg_161 rfl (by decide) cl_9 (by decide) qt1322 qt1323 qt1324), ?_⟩
  refine List.forall_mem_cons.mpr ⟨(ek_put hS cl_11 (by decide) (by decide) rfl rfl qt921), ?_⟩
  refine List.forall_mem_cons.mpr ⟨(ek_put hS cl_11 (by decide) (by decide) rfl rfl qt926), ?_⟩
  refine List.forall_mem_cons.mpr ⟨(ek_get hS cl_11 (by decide) (by decide) rfl qt926), ?_⟩
  refine List.forall_mem_cons.mpr ⟨(ek_getn hS cl_5 (by decide) (by decide) rfl qt552), ?_⟩
  refine List.forall_mem_cons.mpr ⟨(ek_get hS cl_11 (by decide) (by decide) rfl qt922), ?_⟩
  refine List.forall_mem_cons.mpr ⟨(ek_get hS cl_11 (by decide) (by decide) rfl qt921), ?_⟩
  refine List.forall_mem_cons.mpr ⟨(ek_put hS cl_11 (by decide) (by decide) rfl rfl qt927), ?_⟩
  refine List.forall_mem_cons.mpr ⟨(ek_getn hS cl_5 (by decide) (by decide) rfl qt514), ?_⟩
  refine List.forall_mem_cons.mpr ⟨(ek_get hS cl_11 (by decide) (by decide) rfl qt925), ?_⟩
  refine List.forall_mem_cons.mpr ⟨(ek_getn hS cl_5 (by decide) (by decide) rfl qt520), ?_⟩
  refine List.forall_mem_cons.mpr ⟨(ek_iv hS gg_76 rfl (by decide) cl_5 (by decide) qt1977 qt1978 qt1979), ?_⟩
  refine List.forall_mem_cons.mpr ⟨(ek_iv hS gg_198 rfl (by decide) cl_11 (by decide) qt1981 qt1983 (lw_all_tbl qs76)), ?_⟩
  refine List.forall_mem_cons.mpr ⟨(ek_iv hS gg_199 rfl (by decide) cl_11 (by decide) qt1985 qt1987 (lw_all_tbl qs77)), ?_⟩
  refine List.forall_mem_cons.mpr ⟨(ek_getn hS cl_5 (by decide) (by decide) rfl qt536), ?_⟩
  refine List.forall_mem_cons.mpr ⟨(ek_getn hS cl_5 (by decide) (by decide) rfl qt542), ?_⟩
  refine List.forall_mem_cons.mpr ⟨(ek_get hS cl_11 (by decide) (by decide) rfl qt923), ?_⟩
  refine List.forall_mem_cons.mpr ⟨(ek_get hS cl_11 (by decide) (by decide) rfl qt924), ?_⟩
  refine List.forall_mem_cons.mpr ⟨(ek_getn hS cl_5 (by decide) (by decide) rfl qt485), ?_⟩
  refine List.forall_mem_cons.mpr ⟨(ek_getn hS cl_5 (by decide) (by decide) rfl qt436), ?_⟩
  refine List.forall_mem_cons.mpr ⟨(ek_getn hS cl_5 (by decide) (by decide) rfl qt481), ?_⟩
  refine List.forall_mem_cons.mpr ⟨(ek_iv hS gg_179 rfl (by decide) cl_9 (by decide) qt1990 qt1991 qt1992), ?_⟩
  refine List.forall_mem_cons.mpr ⟨(ek_iv hS gg_174 rfl (by decide) cl_9 (by decide) qt1994 qt1921 qt1922), ?_⟩
  refine List.forall_mem_cons.mpr ⟨(ek_iv hS gg_200 rfl (by decide) cl_11 (by decide) qt1995 qt1997 (lw_all_tbl qs78)), ?_⟩
  refine List.forall_mem_cons.mpr ⟨(ek_iv hS gg_201 rfl (by decide) cl_11 (by decide) qt1999 qt2001 (lw_all_tbl qs79)), ?_⟩
  refine List.forall_mem_cons.mpr ⟨(ek_get hS cl_11 (by decide) (by decide) rfl qt920), ?_⟩
  refine List.forall_mem_cons.mpr ⟨(ek_is hS gg_440 rfl (by decide) qt1989 qt1666), ?_⟩
  exact fun q h => absurd h List.not_mem_nil
def RT_X11_1 : List (Instr × Nat × Nat × Nat) := [(.getfield 130, 5, 0, 1), (.getfield 133, 5, 11, 1), (.invokevirtual 136, 202, 2, 11), (.invokevirtual 139, 203, 3, 11), (.invokevirtual 142, 204, 4, 11), (.invokevirtual 146, 205, 2, 11), (.invokevirtual 148, 206, 2, 11), (.invokevirtual 151, 207, 3, 11), (.getfield 121, 5, 5, 1), (.invokevirtual 154, 210, 3, 11), (.getfield 124, 5, 16, 1), (.getfield 73, 11, 10, 0), (.invokevirtual 127, 74, 3, 5), (.getfield 166, 5, 7, 1), (.getfield 33, 11, 1, 0), (.invokevirtual 169, 154, 2, 8), (.invokevirtual 171, 146, 3, 8), (.invokevirtual 174, 155, 3, 8), (.invokevirtual 108, 167, 3, 9), (.invokevirtual 103, 153, 2, 8), (.getfield 177, 5, 23, 1), (.getfield 180, 5, 27, 1), (.getfield 183, 5, 28, 1), (.invokevirtual 157, 208, 2, 11), (.invokevirtual 160, 209, 2, 11), (.getfield 163, 5, 6, 1)]
set_option maxRecDepth 100000 in
set_option maxHeartbeats 4000000 in
theorem rt_X11_1 (hS : pv_ST B sa xv H0 args s) : ∀ q ∈ RT_X11_1, pv_EK (mkE B sa xv D cA H0) (PP L xs) GG "RegionHouse$Code" q args s := by
  skip
  refine List.forall_mem_cons.mpr ⟨(ek_getn hS cl_5 (by decide) (by decide) rfl qt423), ?_⟩
  refine List.forall_mem_cons.mpr ⟨(ek_getn hS cl_5 (by decide) (by decide) rfl qt461), ?_⟩
  refine List.forall_mem_cons.mpr ⟨(ek_iv hS gg_202 rfl (by decide) cl_11 (by decide) qt2003 qt2005 (lw_all_tbl qs80)), ?_⟩
  refine List.forall_mem_cons.mpr ⟨(ek_iv hS gg_203 rfl (by decide) cl_11 (by decide) qt2008 qt2010 (lw_all_tbl qs81)), ?_⟩
  refine List.forall_mem_cons.mpr ⟨(ek_iv hS gg_204 rfl (by decide) cl_11 (by decide) qt2016 qt2018 (lw_all_tbl qs82)), ?_⟩
  refine List.forall_mem_cons.mpr ⟨(ek_iv hS gg_205 rfl (by decide) cl_11 (by decide) qt2020 qt2022 (lw_all_tbl qs83)), ?_⟩
  refine List.forall_mem_cons.mpr ⟨(ek_iv hS gg_206 rfl (by decide) cl_11 (by decide) qt2025 qt2027 (lw_all_tbl qs84)), ?_⟩
  refine List.forall_mem_cons.mpr ⟨(ek_iv hS gg_207 rfl (by decide) cl_11 (by decide) qt2029 qt2031 (lw_all_tbl qs85)), ?_⟩
  refine List.forall_mem_cons.mpr ⟨(ek_getn hS cl_5 (by decide) (by decide) rfl qt441), ?_⟩
  refine List.forall_mem_cons.mpr ⟨(ek_iv hS gg_210 rfl (by decide) cl_11 (by decide) qt2041 qt2043 (lw_all_tbl qs88)), ?_⟩
  refine List.forall_mem_cons.mpr ⟨(ek_getn hS cl_5 (by decide) (by decide) rfl qt471), ?_⟩
  refine List.forall_mem_cons.mpr ⟨(ek_get hS cl_11 (by decide) (by decide) rfl qt927), ?_⟩
  refine List.forall_mem_cons.mpr ⟨(ek_iv hS gg_74 rfl (by decide) cl_5 (by decide) qt2007 qt1658 qt1659), ?_⟩
  refine List.forall_mem_cons.mpr ⟨(ek_getn hS cl_5 (by decide) (by decide) rfl qt446), ?_⟩
  refine List.forall_mem_cons.mpr ⟨(ek_get hS cl_11 (by decide) (by decide) rfl qt918), ?_⟩
  refine List.forall_mem_cons.mpr ⟨(ek_iv hS gg_154 rfl (by decide) cl_8 (by decide) qt2012 qt1856 qt1857), ?_⟩
  refine List.forall_mem_cons.mpr ⟨(ek_iv hS gg_146 rfl (by decide) cl_8 (by decide) qt2013 qt1759 qt1760), ?_⟩
  refine List.forall_mem_cons.mpr ⟨(ek_iv hS gg_155 rfl (by decide) cl_8 (by decide) qt2014 qt1860 qt1861), ?_⟩
  refine List.forall_mem_cons.mpr ⟨(ek_iv hS gg_167 rfl (by decide) cl_9 (by decide) qt2015 qt1868 qt1869), ?_⟩
  refine List.forall_mem_cons.mpr ⟨(ek_iv hS gg_153 rfl (by decide) cl_8 (by decide) qt2024 qt1847 qt1848), ?_⟩
  refine List.forall_mem_cons.mpr ⟨(ek_getn hS cl_5 (by decide) (by decide) rfl qt490), ?_⟩
  refine List.forall_mem_cons.mpr ⟨(ek_getn hS cl_5 (by decide) (by decide) rfl qt499), ?_⟩
  refine List.forall_mem_cons.mpr ⟨(ek_getn hS cl_5 (by decide) (by decide) rfl qt502), ?_⟩
  refine List.forall_mem_cons.mpr ⟨(ek_iv hS gg_208 rfl (by decide) cl_11 (by decide) qt2033 qt2035 (lw_all_tbl qs86)), ?_⟩
  refine List.forall_mem_cons.mpr ⟨(ek_iv hS gg_209 rfl (by decide) cl_11 (by decide) qt2037 qt2039 (lw_all_tbl qs87)), ?_⟩
  refine List.forall_mem_cons.mpr ⟨(ek_getn hS cl_5 (by decide) (by decide) rfl qt444), ?_⟩
  exact fun q h => absurd h List.not_mem_nil
def RT_X11 : List (Instr × Nat × Nat × Nat) := RT_X11_0 ++ (RT_X11_1)
theorem rt_X11 (hS : pv_ST B sa xv H0 args s) : ∀ q ∈ RT_X11, pv_EK (mkE B sa xv D cA H0) (PP L xs) GG "RegionHouse$Code" q args s := List.forall_mem_append.mpr ⟨rt_X11_0 hS, rt_X11_1 hS⟩
def RT_X12_0 : List (Instr × Nat × Nat × Nat) := [(.invokespecial 1, 0, 0, 2), (.newarray .int, 0, 0, 0), (.putfield 9, 12, 0, 0), (.newarray .byte, 0, 0, 0), (.putfield 13, 12, 1, 0), (.putfield 17, 12, 2, 0), (.getfield 17, 12, 2, 0), (.getfield 13, 12, 1, 0), (.getfield 9, 12, 0, 0), (.invokevirtual 21, 220, 4, 12)]
set_option maxRecDepth 100000 in
set_option maxHeartbeats 4000000 in
theorem rt_X12_0 (hS : pv_ST B sa xv H0 args s) : ∀ q ∈ RT_X12_0, pv_EK (mkE B sa xv D cA H0) (PP L xs) GG "RegionHouse$Stack" q args s := by
  skip
  refine List.forall_mem_cons.mpr ⟨(ek_obj hS qt956 qt282 qt283), ?_⟩
  refine List.forall_mem_cons.mpr ⟨(ek_newa hS qt412), ?_⟩
  refine List.forall_mem_cons.mpr ⟨(ek_putf hS cl_12 (by decide) (by decide) rfl rfl qt957), ?_⟩
  refine List.forall_mem_cons.mpr ⟨(ek_newa hS qt297), ?_⟩
  refine List.forall_mem_cons.mpr ⟨(ek_putf hS cl_12 (by decide) (by decide) rfl rfl qt958), ?_⟩
  refine List.forall_mem_cons.mpr ⟨(ek_put hS cl_12 (by decide) (by decide) rfl rfl qt959), ?_⟩
  refine List.forall_mem_cons.mpr ⟨(ek_get hS cl_12 (by decide) (by decide) rfl qt959), ?_⟩
  refine List.forall_mem_cons.mpr ⟨(ek_get hS cl_12 (by decide) (by decide) rfl qt958), ?_⟩
  refine List.forall_mem_cons.mpr ⟨(ek_get hS cl_12 (by decide) (by decide) rfl qt957), ?_⟩
  refine List.forall_mem_cons.mpr ⟨(ek_iv hS gg_220 rfl (by decide) cl_12 (by decide) qt2413 qt1346 qt1347), ?_⟩
  exact fun q h => absurd h List.not_mem_nil
def RT_X12 : List (Instr × Nat × Nat × Nat) := RT_X12_0
theorem rt_X12 (hS : pv_ST B sa xv H0 args s) : ∀ q ∈ RT_X12, pv_EK (mkE B sa xv D cA H0) (PP L xs) GG "RegionHouse$Stack" q args s := rt_X12_0 hS
def RT_X13_0 : List (Instr × Nat × Nat × Nat) := [(.invokespecial 3, 0, 0, 2), (.ldc 11, 51200, 0, 0), (.newarray .int, 0, 0, 0), (.putfield 12, 13, 2, 0), (.newarray .byte, 0, 0, 0), (.putfield 16, 13, 3, 0), (.putfield 20, 13, 4, 0), (.putfield 24, 13, 5, 0), (.putfield 27, 13, 6, 0), (.putfield 30, 13, 7, 0), (.putfield 33, 13, 11, 0), (.putfield 36, 13, 12, 0), (.putfield 39, 13, 13, 0), (.putfield 42, 13, 14, 0), (.putfield 45, 13, 15, 0), (.putfield 48, 13, 16, 0), (.putfield 51, 13, 17, 0), (.putfield 54, 13, 18, 0), (.putfield 57, 13, 25, 0), (.putfield 60, 13, 0, 0), (.putfield 64, 13, 1, 0), (.invokevirtual 68, 226, 1, 13), (.putfield 71, 13, 19, 0), (.putfield 74, 13, 9, 0), (.getfield 20, 13, 4, 0), (.getfield 27, 13, 6, 0), (.putfield 77, 13, 8, 0), (.putfield 80, 13, 10, 0), (.putfield 83, 13, 20, 0), (.putfield 86, 13, 21, 0), (.putfield 89, 13, 22, 0), (.putfield 92, 13, 23, 0), (.getfield 86, 13, 21, 0), (.getfield 89, 13, 22, 0), (.getfield 92, 13, 23, 0), (.getfield 74, 13, 9, 0), (.getfield 80, 13, 10, 0), (.getfield 71, 13, 19, 0), (.getfield 83, 13, 20, 0), (.getfield 33, 13, 11, 0)]
set_option maxRecDepth 100000 in
set_option maxHeartbeats 4000000 in
theorem rt_X13_0 (hS : pv_ST B sa xv H0 args s) : ∀ q ∈ RT_X13_0, pv_EK (mkE B sa xv D cA H0) (PP L xs) GG "RegionHouse$Pool" q args s := by
  skip
  refine List.forall_mem_cons.mpr ⟨(ek_obj hS qt972 qt282 qt283), ?_⟩
  refine List.forall_mem_cons.mpr ⟨(ek_ldc hS qt973), ?_⟩
  refine List.forall_mem_cons.mpr ⟨(ek_newa hS qt412), ?_⟩
  refine List.forall_mem_cons.mpr ⟨(ek_putf hS cl_13 (by decide) (by decide) rfl rfl qt980), ?_⟩
  refine List.forall_mem_cons.mpr ⟨(ek_newa hS qt297), ?_⟩
  refine List.forall_mem_cons.mpr ⟨(ek_putf hS cl_13 (by decide) (by decide) rfl rfl qt981), ?_⟩
  refine List.forall_mem_cons.mpr ⟨(ek_put hS cl_13 (by decide) (by decide) rfl rfl qt982), ?_⟩
  refine List.forall_mem_cons.mpr ⟨(ek_put hS cl_13 (by decide) (by decide) rfl rfl qt983), ?_⟩
  refine List.forall_mem_cons.mpr ⟨(ek_putf hS cl_13 (by decide) (by decide) rfl rfl qt984), ?_⟩
  refine List.forall_mem_cons.mpr ⟨(ek_putf hS cl_13 (by decide) (by decide) rfl rfl qt985), ?_⟩
  refine List.forall_mem_cons.mpr ⟨(ek_putf hS cl_13 (by decide) (by decide) rfl rfl qt989), ?_⟩
  refine List.forall_mem_cons.mpr ⟨(ek_putf hS cl_13 (by decide) (by decide) rfl rfl qt990), ?_⟩
  refine List.forall_mem_cons.mpr ⟨(ek_putf hS cl_13 (by decide) (by decide) rfl rfl qt991), ?_⟩
  refine List.forall_mem_cons.mpr ⟨(ek_putf hS cl_13 (by decide) (by decide) rfl rfl qt992), ?_⟩
  refine List.forall_mem_cons.mpr ⟨(ek_putf hS cl_13 (by decide) (by decide) rfl rfl qt993), ?_⟩
  refine List.forall_mem_cons.mpr ⟨(ek_putf hS cl_13 (by decide) (by decide) rfl rfl qt994), ?_⟩
  refine List.forall_mem_cons.mpr ⟨(ek_putf hS cl_13 (by decide) (by decide) rfl rfl qt995), ?_⟩
  refine List.forall_mem_cons.mpr ⟨(ek_putf hS cl_13 (by decide) (by decide) rfl rfl qt996), ?_⟩
  refine List.forall_mem_cons.mpr ⟨(ek_putf hS cl_13 (by decide) (by decide) rfl rfl qt1003), ?_⟩
  refine List.forall_mem_cons.mpr ⟨(ek_putf hS cl_13 (by decide) (by decide) rfl rfl qt978), ?_⟩
  refine List.forall_mem_cons.mpr ⟨(ek_putf hS cl_13 (by decide) (by decide) rfl rfl qt979), ?_⟩
  refine List.forall_mem_cons.mpr ⟨(ek_iv hS gg_226 rfl (by decide) cl_13 (by decide) qt974 qt975 qt976), ?_⟩
  refine List.forall_mem_cons.mpr ⟨(ek_put hS cl_13 (by decide) (by decide) rfl rfl qt997), ?_⟩
  refine List.forall_mem_cons.mpr ⟨(ek_put hS cl_13 (by decide) (by decide) rfl rfl qt987), ?_⟩
  refine List.forall_mem_cons.mpr ⟨(ek_get hS cl_13 (by decide) (by decide) rfl qt982), ?_⟩
  refine List.forall_mem_cons.mpr ⟨(ek_get hS cl_13 (by decide) (by decide) rfl qt984), ?_⟩
  refine List.forall_mem_cons.mpr ⟨(ek_put hS cl_13 (by decide) (by decide) rfl rfl qt986), ?_⟩
  refine List.forall_mem_cons.mpr ⟨(ek_put hS cl_13 (by decide) (by decide) rfl rfl qt988), ?_⟩
  refine List.forall_mem_cons.mpr ⟨(ek_put hS cl_13 (by decide) (by decide) rfl rfl qt998), ?_⟩
  refine List.forall_mem_cons.mpr ⟨(ek_put hS cl_13 (by decide) (by decide) rfl rfl qt999), ?_⟩
  refine List.forall_mem_cons.mpr ⟨(ek_put hS cl_13 (by decide) (by decide) rfl rfl qt1000), ?_⟩
  refine List.forall_mem_cons.mpr ⟨(ek_put hS cl_13 (by decide) (by decide) rfl rfl qt1001), ?_⟩
  refine List.forall_mem_cons.mpr ⟨(ek_get hS cl_13 (by decide) (by decide) rfl qt999), ?_⟩
  refine List.forall_mem_cons.mpr ⟨(ek_get hS cl_13 (by decide) (by decide) rfl qt1000), ?_⟩
  refine List.forall_mem_cons.mpr ⟨(ek_get hS cl_13 (by decide) (by decide) rfl qt1001), ?_⟩
  refine List.forall_mem_cons.mpr ⟨(ek_get hS cl_13 (by decide) (by decide) rfl qt987), ?_⟩
  refine List.forall_mem_cons.mpr ⟨(ek_get hS cl_13 (by decide) (by decide) rfl qt988), ?_⟩
  refine List.forall_mem_cons.mpr ⟨(ek_get hS cl_13 (by decide) (by decide) rfl qt997), ?_⟩
  refine List.forall_mem_cons.mpr ⟨(ek_get hS cl_13 (by decide) (by decide) rfl qt998), ?_⟩
  refine List.forall_mem_cons.mpr ⟨(ek_get hS cl_13 (by decide) (by decide) rfl qt989), ?_⟩
  exact fun q h => absurd h List.not_mem_nil
def RT_X13_1 : List (Instr × Nat × Nat × Nat) := [(.getfield 36, 13, 12, 0), (.getfield 48, 13, 16, 0), (.getfield 51, 13, 17, 0), (.getfield 45, 13, 15, 0), (.getfield 54, 13, 18, 0), (.getfield 39, 13, 13, 0), (.invokevirtual 95, 232, 2, 13), (.putfield 135, 13, 26, 0), (.getfield 60, 13, 0, 0), (.invokevirtual 138, 217, 1, 12), (.invokevirtual 144, 218, 2, 12), (.invokevirtual 147, 219, 2, 12), (.invokevirtual 150, 233, 2, 13), (.invokevirtual 153, 220, 4, 12), (.getfield 135, 13, 26, 0), (.getfield 57, 13, 25, 0), (.invokevirtual 157, 239, 2, 13), (.invokevirtual 99, 240, 2, 13), (.getfield 42, 13, 14, 0), (.getfield 12, 13, 2, 0), (.getfield 30, 13, 7, 0), (.getfield 24, 13, 5, 0), (.invokevirtual 161, 234, 2, 13), (.invokevirtual 116, 235, 3, 13), (.getfield 77, 13, 8, 0), (.invokevirtual 120, 236, 2, 13), (.invokevirtual 123, 237, 3, 13), (.getfield 16, 13, 3, 0), (.invokevirtual 164, 238, 4, 13), (.getfield 64, 13, 1, 0), (.invokevirtual 126, 196, 2, 11), (.invokestatic 102, 438, 2, 0), (.putfield 108, 13, 24, 0), (.invokevirtual 112, 248, 1, 13), (.ldc 131, 50000, 0, 0), (.getfield 108, 13, 24, 0), (.invokevirtual 132, 231, 1, 13)]
set_option maxRecDepth 100000 in
set_option maxHeartbeats 4000000 in
theorem rt_X13_1 (hS : pv_ST B sa xv H0 args s) : ∀ q ∈ RT_X13_1, pv_EK (mkE B sa xv D cA H0) (PP L xs) GG "RegionHouse$Pool" q args s := by
  skip
  refine List.forall_mem_cons.mpr ⟨(ek_get hS cl_13 (by decide) (by decide) rfl qt990), ?_⟩
  refine List.forall_mem_cons.mpr ⟨(ek_get hS cl_13 (by decide) (by decide) rfl qt994), ?_⟩
  refine List.forall_mem_cons.mpr ⟨(ek_get hS cl_13 (by decide) (by decide) rfl qt995), ?_⟩
  refine List.forall_mem_cons.mpr ⟨(ek_get hS cl_13 (by decide) (by decide) rfl qt993), ?_⟩
  refine List.forall_mem_cons.mpr ⟨(ek_get hS cl_13 (by decide) (by decide) rfl qt996), ?_⟩
  refine List.forall_mem_cons.mpr ⟨(ek_get hS cl_13 (by decide) (by decide) rfl qt991), ?_⟩
  refine List.forall_mem_cons.mpr ⟨(ek_iv hS gg_232 rfl (by decide) cl_13 (by decide) qt1297 qt1299 (lw_all_tbl qs1)), ?_⟩
  refine List.forall_mem_cons.mpr ⟨(ek_put hS cl_13 (by decide) (by decide) rfl rfl qt1004), ?_⟩
  refine List.forall_mem_cons.mpr ⟨(ek_get hS cl_13 (by decide) (by decide) rfl qt978), ?_⟩
  refine List.forall_mem_cons.mpr ⟨(ek_iv hS gg_217 rfl (by decide) cl_12 (by decide) qt1301 qt1262 qt1263), ?_⟩
  refine List.forall_mem_cons.mpr ⟨(ek_iv hS gg_218 rfl (by decide) cl_12 (by decide) qt1302 qt1303 qt1304), ?_⟩
  refine List.forall_mem_cons.mpr ⟨(ek_iv hS gg_219 rfl (by decide) cl_12 (by decide) qt1306 qt1307 qt1308), ?_⟩
  refine List.forall_mem_cons.mpr ⟨(ek_iv hS gg_233 rfl (by decide) cl_13 (by decide) qt1310 qt1312 (lw_all_tbl qs2)), ?_⟩
  refine List.forall_mem_cons.mpr ⟨(ek_iv hS gg_220 rfl (by decide) cl_12 (by decide) qt1345 qt1346 qt1347), ?_⟩
  refine List.forall_mem_cons.mpr ⟨(ek_get hS cl_13 (by decide) (by decide) rfl qt1004), ?_⟩
  refine List.forall_mem_cons.mpr ⟨(ek_get hS cl_13 (by decide) (by decide) rfl qt1003), ?_⟩
  refine List.forall_mem_cons.mpr ⟨(ek_iv hS gg_239 rfl (by decide) cl_13 (by decide) qt1349 qt1351 (lw_all_tbl qs7)), ?_⟩
  refine List.forall_mem_cons.mpr ⟨(ek_iv hS gg_240 rfl (by decide) cl_13 (by decide) qt1353 qt1355 (lw_all_tbl qs8)), ?_⟩
  refine List.forall_mem_cons.mpr ⟨(ek_get hS cl_13 (by decide) (by decide) rfl qt992), ?_⟩
  refine List.forall_mem_cons.mpr ⟨(ek_get hS cl_13 (by decide) (by decide) rfl qt980), ?_⟩
  refine List.forall_mem_cons.mpr ⟨(ek_get hS cl_13 (by decide) (by decide) rfl qt985), ?_⟩
  refine List.forall_mem_cons.mpr ⟨(ek_get hS cl_13 (by decide) (by decide) rfl qt983), ?_⟩
  refine List.forall_mem_cons.mpr ⟨(ek_iv hS gg_234 rfl (by decide) cl_13 (by decide) qt1314 qt1316 (lw_all_tbl qs3)), ?_⟩
  refine List.forall_mem_cons.mpr ⟨(ek_iv hS gg_235 rfl (by decide) cl_13 (by decide) qt1326 qt1328 (lw_all_tbl qs4)), ?_⟩
  refine List.forall_mem_cons.mpr ⟨(ek_get hS cl_13 (by decide) (by decide) rfl qt986), ?_⟩
  refine List.forall_mem_cons.mpr ⟨(ek_iv hS gg_236 rfl (by decide) cl_13 (by decide) qt1330 qt1332 (lw_all_tbl qs5)), ?_⟩
  refine List.forall_mem_cons.mpr ⟨(ek_iv hS gg_237 rfl (by decide) cl_13 (by decide) qt1337 qt1339 (lw_all_tbl qs6)), ?_⟩
  refine List.forall_mem_cons.mpr ⟨(ek_get hS cl_13 (by decide) (by decide) rfl qt981), ?_⟩
  refine List.forall_mem_cons.mpr ⟨(ek_iv hS gg_238 rfl (by decide) cl_13 (by decide) qt1341 qt1342 qt1343), ?_⟩
  refine List.forall_mem_cons.mpr ⟨(ek_get hS cl_13 (by decide) (by decide) rfl qt979), ?_⟩
  refine List.forall_mem_cons.mpr ⟨(ek_iv hS gg_196 rfl (by decide) cl_11 (by decide) qt1318 qt1319 qt1320), ?_⟩
  refine List.forall_mem_cons.mpr ⟨(ek_is hS gg_438 rfl (by decide) qt1334 qt1335), ?_⟩
  refine List.forall_mem_cons.mpr ⟨(ek_put hS cl_13 (by decide) (by decide) rfl rfl qt1002), ?_⟩
  refine List.forall_mem_cons.mpr ⟨(ek_iv hS gg_248 rfl (by decide) cl_13 (by decide) qt2374 qt2376 (lw_all_tbl qs108)), ?_⟩
  refine List.forall_mem_cons.mpr ⟨(ek_ldc hS qt2378), ?_⟩
  refine List.forall_mem_cons.mpr ⟨(ek_get hS cl_13 (by decide) (by decide) rfl qt1002), ?_⟩
  refine List.forall_mem_cons.mpr ⟨(ek_iv hS gg_231 rfl (by decide) cl_13 (by decide) qt2379 qt1294 qt1295), ?_⟩
  exact fun q h => absurd h List.not_mem_nil
def RT_X13 : List (Instr × Nat × Nat × Nat) := RT_X13_0 ++ (RT_X13_1)
theorem rt_X13 (hS : pv_ST B sa xv H0 args s) : ∀ q ∈ RT_X13, pv_EK (mkE B sa xv D cA H0) (PP L xs) GG "RegionHouse$Pool" q args s := List.forall_mem_append.mpr ⟨rt_X13_0 hS, rt_X13_1 hS⟩
def RT_X14_0 : List (Instr × Nat × Nat × Nat) := [(.invokespecial 3, 0, 0, 2), (.newarray .int, 0, 0, 0), (.putfield 11, 14, 12, 0), (.putfield 15, 14, 13, 0), (.putfield 18, 14, 14, 0), (.putfield 21, 14, 15, 0), (.putfield 24, 14, 16, 0), (.putfield 27, 14, 0, 0), (.putfield 31, 14, 1, 0), (.putfield 35, 14, 2, 0), (.putfield 39, 14, 3, 0), (.putfield 43, 14, 4, 0), (.invokevirtual 54, 252, 2, 14), (.getfield 43, 14, 4, 0), (.invokevirtual 58, 227, 1, 13), (.putfield 63, 14, 6, 0), (.putfield 47, 14, 5, 0), (.getfield 39, 14, 3, 0), (.invokevirtual 66, 216, 1, 12), (.invokevirtual 71, 226, 1, 13), (.putfield 74, 14, 17, 0), (.putfield 51, 14, 7, 0), (.getfield 47, 14, 5, 0), (.getfield 63, 14, 6, 0), (.getfield 74, 14, 17, 0), (.invokevirtual 133, 217, 1, 12), (.invokevirtual 240, 229, 2, 13), (.invokevirtual 231, 257, 1, 14), (.invokevirtual 234, 231, 1, 13), (.invokevirtual 237, 241, 1, 13), (.invokevirtual 77, 251, 1, 14), (.getfield 27, 14, 0, 0), (.getfield 80, 5, 38, 1), (.putfield 84, 14, 10, 0), (.getfield 35, 14, 2, 0), (.getfield 84, 14, 10, 0), (.invokevirtual 87, 211, 2, 11), (.putfield 93, 14, 8, 0), (.putfield 96, 14, 9, 0), (.putfield 99, 14, 11, 0)]
set_option maxRecDepth 100000 in
set_option maxHeartbeats 4000000 in
theorem rt_X14_0 (hS : pv_ST B sa xv H0 args s) : ∀ q ∈ RT_X14_0, pv_EK (mkE B sa xv D cA H0) (PP L xs) GG "RegionHouse$Machine" q args s := by
  skip
  refine List.forall_mem_cons.mpr ⟨(ek_obj hS qt1065 qt282 qt283), ?_⟩
  refine List.forall_mem_cons.mpr ⟨(ek_newa hS qt412), ?_⟩
  refine List.forall_mem_cons.mpr ⟨(ek_putf hS cl_14 (by decide) (by decide) rfl rfl qt1078), ?_⟩
  refine List.forall_mem_cons.mpr ⟨(ek_putf hS cl_14 (by decide) (by decide) rfl rfl qt1079), ?_⟩
  refine List.forall_mem_cons.mpr ⟨(ek_putf hS cl_14 (by decide) (by decide) rfl rfl qt1080), ?_⟩
  refine List.forall_mem_cons.mpr ⟨(ek_putf hS cl_14 (by decide) (by decide) rfl rfl qt1081), ?_⟩
  refine List.forall_mem_cons.mpr ⟨(ek_putf hS cl_14 (by decide) (by decide) rfl rfl qt1082), ?_⟩
  refine List.forall_mem_cons.mpr ⟨(ek_putf hS cl_14 (by decide) (by decide) rfl rfl qt1066), ?_⟩
  refine List.forall_mem_cons.mpr ⟨(ek_putf hS cl_14 (by decide) (by decide) rfl rfl qt1067), ?_⟩
  refine List.forall_mem_cons.mpr ⟨(ek_putf hS cl_14 (by decide) (by decide) rfl rfl qt1068), ?_⟩
  refine List.forall_mem_cons.mpr ⟨(ek_putf hS cl_14 (by decide) (by decide) rfl rfl qt1069), ?_⟩
  refine List.forall_mem_cons.mpr ⟨(ek_putf hS cl_14 (by decide) (by decide) rfl rfl qt1070), ?_⟩
  refine List.forall_mem_cons.mpr ⟨(ek_iv hS gg_252 rfl (by decide) cl_14 (by decide) qt1220 qt1222 (lw_all_tbl qs0)), ?_⟩
  refine List.forall_mem_cons.mpr ⟨(ek_get hS cl_14 (by decide) (by decide) rfl qt1070), ?_⟩
  refine List.forall_mem_cons.mpr ⟨(ek_iv hS gg_227 rfl (by decide) cl_13 (by decide) qt1229 qt1230 qt1231), ?_⟩
  refine List.forall_mem_cons.mpr ⟨(ek_put hS cl_14 (by decide) (by decide) rfl rfl qt1072), ?_⟩
  refine List.forall_mem_cons.mpr ⟨(ek_put hS cl_14 (by decide) (by decide) rfl rfl qt1071), ?_⟩
  refine List.forall_mem_cons.mpr ⟨(ek_get hS cl_14 (by decide) (by decide) rfl qt1069), ?_⟩
  refine List.forall_mem_cons.mpr ⟨(ek_iv hS gg_216 rfl (by decide) cl_12 (by decide) qt1224 qt1225 qt1226), ?_⟩
  refine List.forall_mem_cons.mpr ⟨(ek_iv hS gg_226 rfl (by decide) cl_13 (by decide) qt1228 qt975 qt976), ?_⟩
  refine List.forall_mem_cons.mpr ⟨(ek_put hS cl_14 (by decide) (by decide) rfl rfl qt1083), ?_⟩
  refine List.forall_mem_cons.mpr ⟨(ek_put hS cl_14 (by decide) (by decide) rfl rfl qt1073), ?_⟩
  refine List.forall_mem_cons.mpr ⟨(ek_get hS cl_14 (by decide) (by decide) rfl qt1071), ?_⟩
  refine List.forall_mem_cons.mpr ⟨(ek_get hS cl_14 (by decide) (by decide) rfl qt1072), ?_⟩
  refine List.forall_mem_cons.mpr ⟨(ek_get hS cl_14 (by decide) (by decide) rfl qt1083), ?_⟩
  refine List.forall_mem_cons.mpr ⟨(ek_iv hS gg_217 rfl (by decide) cl_12 (by decide) qt1261 qt1262 qt1263), ?_⟩
  refine List.forall_mem_cons.mpr ⟨(ek_iv hS gg_229 rfl (by decide) cl_13 (by decide) qt1265 qt1266 qt1267), ?_⟩
  refine List.forall_mem_cons.mpr ⟨(ek_iv hS gg_257 rfl (by decide) cl_14 (by decide) qt1289 qt1290 qt1291), ?_⟩
  refine List.forall_mem_cons.mpr ⟨(ek_iv hS gg_231 rfl (by decide) cl_13 (by decide) qt1293 qt1294 qt1295), ?_⟩
  refine List.forall_mem_cons.mpr ⟨(ek_iv hS gg_241 rfl (by decide) cl_13 (by decide) qt1357 qt1358 qt1359), ?_⟩
  refine List.forall_mem_cons.mpr ⟨(ek_iv hS gg_251 rfl (by decide) cl_14 (by decide) qt2286 qt1217 qt1218), ?_⟩
  refine List.forall_mem_cons.mpr ⟨(ek_get hS cl_14 (by decide) (by decide) rfl qt1066), ?_⟩
  refine List.forall_mem_cons.mpr ⟨(ek_getn hS cl_5 (by decide) (by decide) rfl qt549), ?_⟩
  refine List.forall_mem_cons.mpr ⟨(ek_put hS cl_14 (by decide) (by decide) rfl rfl qt1076), ?_⟩
  refine List.forall_mem_cons.mpr ⟨(ek_get hS cl_14 (by decide) (by decide) rfl qt1068), ?_⟩
  refine List.forall_mem_cons.mpr ⟨(ek_get hS cl_14 (by decide) (by decide) rfl qt1076), ?_⟩
  refine List.forall_mem_cons.mpr ⟨(ek_iv hS gg_211 rfl (by decide) cl_11 (by decide) qt2287 qt2288 qt2289), ?_⟩
  refine List.forall_mem_cons.mpr ⟨(ek_put hS cl_14 (by decide) (by decide) rfl rfl qt1074), ?_⟩
  refine List.forall_mem_cons.mpr ⟨(ek_put hS cl_14 (by decide) (by decide) rfl rfl qt1075), ?_⟩
  refine List.forall_mem_cons.mpr ⟨(ek_put hS cl_14 (by decide) (by decide) rfl rfl qt1077), ?_⟩
  exact fun q h => absurd h List.not_mem_nil
def RT_X14_1 : List (Instr × Nat × Nat × Nat) := [(.getfield 31, 14, 1, 0), (.invokevirtual 102, 179, 2, 9), (.invokevirtual 107, 174, 3, 9), (.invokevirtual 111, 259, 2, 14), (.getfield 11, 14, 12, 0), (.getfield 99, 14, 11, 0), (.invokevirtual 114, 242, 3, 13), (.getfield 93, 14, 8, 0), (.invokevirtual 116, 212, 2, 11), (.invokevirtual 118, 261, 1, 14), (.invokevirtual 122, 262, 2, 14), (.invokevirtual 147, 243, 1, 13), (.invokevirtual 148, 244, 2, 13), (.invokevirtual 142, 263, 3, 14), (.getfield 96, 14, 9, 0), (.invokevirtual 151, 264, 2, 14), (.invokevirtual 136, 219, 2, 12), (.invokevirtual 154, 265, 2, 14), (.invokevirtual 157, 266, 2, 14), (.invokevirtual 160, 269, 1, 14), (.invokevirtual 163, 270, 2, 14), (.invokevirtual 166, 268, 1, 14), (.invokevirtual 169, 223, 2, 12), (.invokevirtual 172, 271, 2, 14), (.invokevirtual 175, 224, 2, 12), (.invokevirtual 178, 272, 2, 14), (.invokevirtual 181, 274, 1, 14), (.invokevirtual 184, 275, 1, 14), (.invokevirtual 187, 276, 2, 14), (.invokevirtual 125, 221, 1, 12), (.invokevirtual 129, 222, 3, 12), (.invokevirtual 139, 218, 2, 12), (.invokevirtual 143, 245, 2, 13), (.invokevirtual 146, 246, 2, 13), (.invokevirtual 200, 267, 3, 14), (.invokevirtual 203, 238, 4, 13), (.getfield 51, 14, 7, 0), (.invokevirtual 194, 247, 4, 13), (.invokevirtual 197, 249, 1, 13), (.invokevirtual 208, 196, 2, 11)]
set_option maxRecDepth 100000 in
set_option maxHeartbeats 4000000 in
theorem rt_X14_1 (hS : pv_ST B sa xv H0 args s) : ∀ q ∈ RT_X14_1, pv_EK (mkE B sa xv D cA H0) (PP L xs) GG "RegionHouse$Machine" q args s := by
  skip
  refine List.forall_mem_cons.mpr ⟨(ek_get hS cl_14 (by decide) (by decide) rfl qt1067), ?_⟩
  refine List.forall_mem_cons.mpr ⟨(ek_iv hS gg_179 rfl (by decide) cl_9 (by decide) qt2291 qt1991 qt1992), ?_⟩
  refine List.forall_mem_cons.mpr ⟨(ek_iv hS gg_174 rfl (by decide) cl_9 (by decide) qt2292 qt1921 qt1922), ?_⟩
  refine List.forall_mem_cons.mpr ⟨(ek_iv hS gg_259 rfl (by decide) cl_14 (by decide) qt2293 qt2295 (lw_all_tbl qs100)), ?_⟩
  refine List.forall_mem_cons.mpr ⟨(ek_get hS cl_14 (by decide) (by decide) rfl qt1078), ?_⟩
  refine List.forall_mem_cons.mpr ⟨(ek_get hS cl_14 (by decide) (by decide) rfl qt1077), ?_⟩
  refine List.forall_mem_cons.mpr ⟨(ek_iv hS gg_242 rfl (by decide) cl_13 (by decide) qt2297 qt2298 qt2299), ?_⟩
  refine List.forall_mem_cons.mpr ⟨(ek_get hS cl_14 (by decide) (by decide) rfl qt1074), ?_⟩
  refine List.forall_mem_cons.mpr ⟨(ek_iv hS gg_212 rfl (by decide) cl_11 (by decide) qt2312 qt2313 qt2314), ?_⟩
  refine List.forall_mem_cons.mpr ⟨(ek_iv hS gg_261 rfl (by decide) cl_14 (by decide) qt2316 qt2318 (lw_all_tbl qs101)), ?_⟩
  refine List.forall_mem_cons.mpr ⟨(ek_iv hS gg_262 rfl (by decide) cl_14 (by decide) qt2320 qt2322 (lw_all_tbl qs102)), ?_⟩
  refine List.forall_mem_cons.mpr ⟨(ek_iv hS gg_243 rfl (by decide) cl_13 (by decide) qt2324 qt2325 qt2326), ?_⟩
  refine List.forall_mem_cons.mpr ⟨(ek_iv hS gg_244 rfl (by decide) cl_13 (by decide) qt2328 qt2329 qt2330), ?_⟩
  refine List.forall_mem_cons.mpr ⟨(ek_iv hS gg_263 rfl (by decide) cl_14 (by decide) qt2332 qt2334 (lw_all_tbl qs103)), ?_⟩
  refine List.forall_mem_cons.mpr ⟨(ek_get hS cl_14 (by decide) (by decide) rfl qt1075), ?_⟩
  refine List.forall_mem_cons.mpr ⟨(ek_iv hS gg_264 rfl (by decide) cl_14 (by decide) qt2344 qt2346 (lw_all_tbl qs104)), ?_⟩
  refine List.forall_mem_cons.mpr ⟨(ek_iv hS gg_219 rfl (by decide) cl_12 (by decide) qt2348 qt1307 qt1308), ?_⟩
  refine List.forall_mem_cons.mpr ⟨(ek_iv hS gg_265 rfl (by decide) cl_14 (by decide) qt2350 qt2352 (lw_all_tbl qs105)), ?_⟩
  refine List.forall_mem_cons.mpr ⟨(ek_iv hS gg_266 rfl (by decide) cl_14 (by decide) qt2362 qt2364 (lw_all_tbl qs106)), ?_⟩
  refine List.forall_mem_cons.mpr ⟨(ek_iv hS gg_269 rfl (by decide) cl_14 (by decide) qt2393 qt2395 (lw_all_tbl qs110)), ?_⟩
  refine List.forall_mem_cons.mpr ⟨(ek_iv hS gg_270 rfl (by decide) cl_14 (by decide) qt2400 qt2402 (lw_all_tbl qs111)), ?_⟩
  refine List.forall_mem_cons.mpr ⟨(ek_iv hS gg_268 rfl (by decide) cl_14 (by decide) qt2385 qt2387 (lw_all_tbl qs109)), ?_⟩
  refine List.forall_mem_cons.mpr ⟨(ek_iv hS gg_223 rfl (by decide) cl_12 (by decide) qt2389 qt2390 qt2391), ?_⟩
  refine List.forall_mem_cons.mpr ⟨(ek_iv hS gg_271 rfl (by decide) cl_14 (by decide) qt2405 qt2407 (lw_all_tbl qs112)), ?_⟩
  refine List.forall_mem_cons.mpr ⟨(ek_iv hS gg_224 rfl (by decide) cl_12 (by decide) qt2409 qt2410 qt2411), ?_⟩
  refine List.forall_mem_cons.mpr ⟨(ek_iv hS gg_272 rfl (by decide) cl_14 (by decide) qt2414 qt2416 (lw_all_tbl qs113)), ?_⟩
  refine List.forall_mem_cons.mpr ⟨(ek_iv hS gg_274 rfl (by decide) cl_14 (by decide) qt2422 qt2424 (lw_all_tbl qs115)), ?_⟩
  refine List.forall_mem_cons.mpr ⟨(ek_iv hS gg_275 rfl (by decide) cl_14 (by decide) qt2434 qt2436 (lw_all_tbl qs116)), ?_⟩
  refine List.forall_mem_cons.mpr ⟨(ek_iv hS gg_276 rfl (by decide) cl_14 (by decide) qt2438 qt2440 (lw_all_tbl qs117)), ?_⟩
  refine List.forall_mem_cons.mpr ⟨(ek_iv hS gg_221 rfl (by decide) cl_12 (by decide) qt2336 qt2337 qt2338), ?_⟩
  refine List.forall_mem_cons.mpr ⟨(ek_iv hS gg_222 rfl (by decide) cl_12 (by decide) qt2340 qt2341 qt2342), ?_⟩
  refine List.forall_mem_cons.mpr ⟨(ek_iv hS gg_218 rfl (by decide) cl_12 (by decide) qt2349 qt1303 qt1304), ?_⟩
  refine List.forall_mem_cons.mpr ⟨(ek_iv hS gg_245 rfl (by decide) cl_13 (by decide) qt2354 qt2355 qt2356), ?_⟩
  refine List.forall_mem_cons.mpr ⟨(ek_iv hS gg_246 rfl (by decide) cl_13 (by decide) qt2358 qt2359 qt2360), ?_⟩
  refine List.forall_mem_cons.mpr ⟨(ek_iv hS gg_267 rfl (by decide) cl_14 (by decide) qt2366 qt2368 (lw_all_tbl qs107)), ?_⟩
  refine List.forall_mem_cons.mpr ⟨(ek_iv hS gg_238 rfl (by decide) cl_13 (by decide) qt2384 qt1342 qt1343), ?_⟩
  refine List.forall_mem_cons.mpr ⟨(ek_get hS cl_14 (by decide) (by decide) rfl qt1073), ?_⟩
  refine List.forall_mem_cons.mpr ⟨(ek_iv hS gg_247 rfl (by decide) cl_13 (by decide) qt2370 qt2371 qt2372), ?_⟩
  refine List.forall_mem_cons.mpr ⟨(ek_iv hS gg_249 rfl (by decide) cl_13 (by decide) qt2380 qt2381 qt2382), ?_⟩
  refine List.forall_mem_cons.mpr ⟨(ek_iv hS gg_196 rfl (by decide) cl_11 (by decide) qt2397 qt1319 qt1320), ?_⟩
  exact fun q h => absurd h List.not_mem_nil
def RT_X14_2 : List (Instr × Nat × Nat × Nat) := [(.getfield 211, 5, 25, 1), (.invokevirtual 214, 161, 2, 9), (.invokevirtual 217, 180, 3, 9), (.invokevirtual 207, 220, 4, 12), (.invokevirtual 219, 273, 1, 14), (.getfield 222, 5, 32, 1), (.getfield 15, 14, 13, 0), (.getfield 18, 14, 14, 0), (.getfield 21, 14, 15, 0), (.getfield 24, 14, 16, 0), (.invokevirtual 225, 213, 2, 11), (.invokevirtual 228, 214, 2, 11), (.invokestatic 190, 277, 3, 0), (.invokevirtual 241, 38, 1, 2), (.invokevirtual 244, 279, 4, 14), (.invokevirtual 247, 35, 1, 2), (.invokevirtual 248, 40, 2, 2), (.invokevirtual 251, 280, 4, 14), (.invokevirtual 254, 34, 2, 2), (.ldc_w 257, 13, 0, 1), (.invokevirtual 259, 39, 2, 2), (.ldc_w 262, 2, 0, 1)]
set_option maxRecDepth 100000 in
set_option maxHeartbeats 4000000 in
theorem rt_X14_2 (hS : pv_ST B sa xv H0 args s) : ∀ q ∈ RT_X14_2, pv_EK (mkE B sa xv D cA H0) (PP L xs) GG "RegionHouse$Machine" q args s := by
  skip
  refine List.forall_mem_cons.mpr ⟨(ek_getn hS cl_5 (by decide) (by decide) rfl qt494), ?_⟩
  refine List.forall_mem_cons.mpr ⟨(ek_iv hS gg_161 rfl (by decide) cl_9 (by decide) qt2398 qt1323 qt1324), ?_⟩
  refine List.forall_mem_cons.mpr ⟨(ek_iv hS gg_180 rfl (by decide) cl_9 (by decide) qt2399 qt2161 qt2162), ?_⟩
  refine List.forall_mem_cons.mpr ⟨(ek_iv hS gg_220 rfl (by decide) cl_12 (by decide) qt2404 qt1346 qt1347), ?_⟩
  refine List.forall_mem_cons.mpr ⟨(ek_iv hS gg_273 rfl (by decide) cl_14 (by decide) qt2418 qt2420 (lw_all_tbl qs114)), ?_⟩
  refine List.forall_mem_cons.mpr ⟨(ek_getn hS cl_5 (by decide) (by decide) rfl qt517), ?_⟩
  refine List.forall_mem_cons.mpr ⟨(ek_get hS cl_14 (by decide) (by decide) rfl qt1079), ?_⟩
  refine List.forall_mem_cons.mpr ⟨(ek_get hS cl_14 (by decide) (by decide) rfl qt1080), ?_⟩
  refine List.forall_mem_cons.mpr ⟨(ek_get hS cl_14 (by decide) (by decide) rfl qt1081), ?_⟩
  refine List.forall_mem_cons.mpr ⟨(ek_get hS cl_14 (by decide) (by decide) rfl qt1082), ?_⟩
  refine List.forall_mem_cons.mpr ⟨(ek_iv hS gg_213 rfl (by decide) cl_11 (by decide) qt2426 qt2427 qt2428), ?_⟩
  refine List.forall_mem_cons.mpr ⟨(ek_iv hS gg_214 rfl (by decide) cl_11 (by decide) qt2430 qt2431 qt2432), ?_⟩
  refine List.forall_mem_cons.mpr ⟨(ek_is hS gg_277 rfl (by decide) qt2442 qt2443), ?_⟩
  refine List.forall_mem_cons.mpr ⟨(ek_iv hS gg_38 rfl (by decide) cl_2 (by decide) qt2456 qt1209 qt1210), ?_⟩
  refine List.forall_mem_cons.mpr ⟨(ek_iv hS gg_279 rfl (by decide) cl_14 (by decide) qt2457 qt2459 (lw_all_tbl qs118)), ?_⟩
  refine List.forall_mem_cons.mpr ⟨(ek_iv hS gg_35 rfl (by decide) cl_2 (by decide) qt2461 qt1177 qt1178), ?_⟩
  refine List.forall_mem_cons.mpr ⟨(ek_iv hS gg_40 rfl (by decide) cl_2 (by decide) qt2462 qt2135 qt2136), ?_⟩
  refine List.forall_mem_cons.mpr ⟨(ek_iv hS gg_280 rfl (by decide) cl_14 (by decide) qt2463 qt2465 (lw_all_tbl qs119)), ?_⟩
  refine List.forall_mem_cons.mpr ⟨(ek_iv hS gg_34 rfl (by decide) cl_2 (by decide) qt2467 qt1173 qt1174), ?_⟩
  refine List.forall_mem_cons.mpr ⟨(ek_ldsw hS (k := 13) rfl (by decide)), ?_⟩
  refine List.forall_mem_cons.mpr ⟨(ek_iv hS gg_39 rfl (by decide) cl_2 (by decide) qt2469 qt2124 qt2125), ?_⟩
  refine List.forall_mem_cons.mpr ⟨(ek_ldsw hS (k := 14) rfl (by decide)), ?_⟩
  exact fun q h => absurd h List.not_mem_nil
def RT_X14 : List (Instr × Nat × Nat × Nat) := RT_X14_0 ++ (RT_X14_1 ++ (RT_X14_2))
theorem rt_X14 (hS : pv_ST B sa xv H0 args s) : ∀ q ∈ RT_X14, pv_EK (mkE B sa xv D cA H0) (PP L xs) GG "RegionHouse$Machine" q args s := List.forall_mem_append.mpr ⟨rt_X14_0 hS, List.forall_mem_append.mpr ⟨rt_X14_1 hS, rt_X14_2 hS⟩⟩
def RT_J0_0 : List (Instr × Nat × Nat × Nat) := [(.getfield 9, 90, 0, 0), (.invokevirtual 335, 432, 1, 90), (.getstatic 38, 1, 0, 0), (.getfield 15, 90, 1, 0), (.invokevirtual 492, 434, 1, 90), (.invokestatic 495, 436, 2, 0), (.getstatic 1053, 99, 0, 1), (.invokestatic 1059, 437, 3, 0)]
set_option maxRecDepth 100000 in
set_option maxHeartbeats 4000000 in
theorem rt_J0_0 (hS : pv_ST B sa xv H0 args s) : ∀ q ∈ RT_J0_0, pv_EK (mkE B sa xv D cA H0) (PP L xs) GG "java/lang/String" q args s := by
  skip
  refine List.forall_mem_cons.mpr ⟨(ek_gs0 hS qt3620), ?_⟩
  refine List.forall_mem_cons.mpr ⟨(ek_ivs hS gg_432 rfl (by decide) qt336 qt337 qt338), ?_⟩
  refine List.forall_mem_cons.mpr ⟨(ek_z1 hS qt340), ?_⟩
  refine List.forall_mem_cons.mpr ⟨(ek_gs1 hS qt3621), ?_⟩
  refine List.forall_mem_cons.mpr ⟨(ek_ivs hS gg_434 rfl (by decide) qt346 qt347 qt348), ?_⟩
  refine List.forall_mem_cons.mpr ⟨(ek_is hS gg_436 rfl (by decide) qt350 qt351), ?_⟩
  refine List.forall_mem_cons.mpr ⟨(ek_z2 hS qt356), ?_⟩
  refine List.forall_mem_cons.mpr ⟨(ek_is hS gg_437 rfl (by decide) qt358 qt359), ?_⟩
  exact fun q h => absurd h List.not_mem_nil
def RT_J0 : List (Instr × Nat × Nat × Nat) := RT_J0_0
theorem rt_J0 (hS : pv_ST B sa xv H0 args s) : ∀ q ∈ RT_J0, pv_EK (mkE B sa xv D cA H0) (PP L xs) GG "java/lang/String" q args s := rt_J0_0 hS
def RT_J1_0 : List (Instr × Nat × Nat × Nat) := [(.invokestatic 9, 435, 2, 0)]
set_option maxRecDepth 100000 in
set_option maxHeartbeats 4000000 in
theorem rt_J1_0 (hS : pv_ST B sa xv H0 args s) : ∀ q ∈ RT_J1_0, pv_EK (mkE B sa xv D cA H0) (PP L xs) GG "java/lang/StringLatin1" q args s := by
  skip
  refine List.forall_mem_cons.mpr ⟨(ek_is hS gg_435 rfl (by decide) qt353 qt354), ?_⟩
  exact fun q h => absurd h List.not_mem_nil
def RT_J1 : List (Instr × Nat × Nat × Nat) := RT_J1_0
theorem rt_J1 (hS : pv_ST B sa xv H0 args s) : ∀ q ∈ RT_J1, pv_EK (mkE B sa xv D cA H0) (PP L xs) GG "java/lang/StringLatin1" q args s := rt_J1_0 hS
def RT_J9_0 : List (Instr × Nat × Nat × Nat) := [(.newarray .int, 0, 0, 0), (.invokestatic 304, 439, 2, 0), (.invokestatic 150, 0, 0, 1)]
set_option maxRecDepth 100000 in
set_option maxHeartbeats 4000000 in
theorem rt_J9_0 (hS : pv_ST B sa xv H0 args s) : ∀ q ∈ RT_J9_0, pv_EK (mkE B sa xv D cA H0) (PP L xs) GG "java/util/Arrays" q args s := by
  skip
  refine List.forall_mem_cons.mpr ⟨(ek_newa hS qt412), ?_⟩
  refine List.forall_mem_cons.mpr ⟨(ek_is hS gg_439 rfl (by decide) qt1675 qt1558), ?_⟩
  refine List.forall_mem_cons.mpr ⟨(ek_copy hS qt1676 qt1678 qt1677 qt271), ?_⟩
  exact fun q h => absurd h List.not_mem_nil
def RT_J9 : List (Instr × Nat × Nat × Nat) := RT_J9_0
theorem rt_J9 (hS : pv_ST B sa xv H0 args s) : ∀ q ∈ RT_J9, pv_EK (mkE B sa xv D cA H0) (PP L xs) GG "java/util/Arrays" q args s := rt_J9_0 hS
end RTT
