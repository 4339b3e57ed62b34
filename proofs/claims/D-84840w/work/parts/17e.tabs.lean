section RTT
variable {B : Nat} {sa : Nat → Nat} {xv : Nat → Value} {D : va_G} {cA : Nat → ClassId} {H0 : Heap} {L : Nat} {xs : Nat → Int32} {args : Array Value} {s : State}
def RT_X15_0 : List (Instr × Nat × Nat × Nat) := [(.invokespecial 1, 0, 0, 2), (.newarray .int, 0, 0, 0), (.putfield 7, 15, 2, 0), (.putfield 13, 15, 4, 0), (.putfield 16, 15, 9, 0), (.putfield 19, 15, 10, 0), (.putfield 22, 15, 11, 0), (.putfield 25, 15, 12, 0), (.putfield 28, 15, 14, 0), (.putfield 31, 15, 16, 0), (.ldc 34, 40000, 0, 0), (.putfield 35, 15, 19, 0), (.putfield 38, 15, 20, 0), (.putfield 41, 15, 21, 0), (.putfield 44, 15, 23, 0), (.putfield 47, 15, 24, 0), (.putfield 50, 15, 25, 0), (.putfield 53, 15, 29, 0), (.putfield 56, 15, 30, 0), (.putfield 59, 15, 31, 0), (.putfield 62, 15, 32, 0), (.putfield 65, 15, 33, 0), (.putfield 68, 15, 34, 0), (.putfield 71, 15, 35, 0), (.putfield 74, 15, 37, 0), (.putfield 77, 15, 38, 0), (.putfield 80, 15, 39, 0), (.putfield 83, 15, 41, 0), (.putfield 86, 15, 44, 0), (.putfield 89, 15, 45, 0), (.putfield 92, 15, 47, 0), (.putfield 95, 15, 48, 0), (.putfield 98, 15, 49, 0), (.putfield 101, 15, 50, 0), (.putfield 104, 15, 51, 0), (.putfield 107, 15, 52, 0), (.putfield 110, 15, 53, 0), (.putfield 113, 15, 54, 0), (.putfield 116, 15, 55, 0), (.putfield 119, 15, 56, 0)]
set_option maxRecDepth 100000 in
set_option maxHeartbeats 4000000 in
theorem rt_X15_0 (hS : pv_ST B sa xv H0 args s) : ∀ q ∈ RT_X15_0, pv_EK (mkE B sa xv D cA H0) (PP L xs) GG "RegionHouseModel" q args s := by
  skip
  refine List.forall_mem_cons.mpr ⟨(ek_obj hS qt2476 qt282 qt283), ?_⟩
  refine List.forall_mem_cons.mpr ⟨(ek_newa hS qt412), ?_⟩
  refine List.forall_mem_cons.mpr ⟨(ek_putf hS cl_15 (by decide) (by decide) rfl rfl qt2486), ?_⟩
  refine List.forall_mem_cons.mpr ⟨(ek_putf hS cl_15 (by decide) (by decide) rfl rfl qt2488), ?_⟩
  refine List.forall_mem_cons.mpr ⟨(ek_putf hS cl_15 (by decide) (by decide) rfl rfl qt2493), ?_⟩
  refine List.forall_mem_cons.mpr ⟨(ek_putf hS cl_15 (by decide) (by decide) rfl rfl qt2494), ?_⟩
  refine List.forall_mem_cons.mpr ⟨(ek_putf hS cl_15 (by decide) (by decide) rfl rfl qt2495), ?_⟩
  refine List.forall_mem_cons.mpr ⟨(ek_putf hS cl_15 (by decide) (by decide) rfl rfl qt2496), ?_⟩
  refine List.forall_mem_cons.mpr ⟨(ek_putf hS cl_15 (by decide) (by decide) rfl rfl qt2498), ?_⟩
  refine List.forall_mem_cons.mpr ⟨(ek_putf hS cl_15 (by decide) (by decide) rfl rfl qt2500), ?_⟩
  refine List.forall_mem_cons.mpr ⟨(ek_ldc hS qt2477), ?_⟩
  refine List.forall_mem_cons.mpr ⟨(ek_putf hS cl_15 (by decide) (by decide) rfl rfl qt2503), ?_⟩
  refine List.forall_mem_cons.mpr ⟨(ek_putf hS cl_15 (by decide) (by decide) rfl rfl qt2504), ?_⟩
  refine List.forall_mem_cons.mpr ⟨(ek_putf hS cl_15 (by decide) (by decide) rfl rfl qt2505), ?_⟩
  refine List.forall_mem_cons.mpr ⟨(ek_putf hS cl_15 (by decide) (by decide) rfl rfl qt2507), ?_⟩
  refine List.forall_mem_cons.mpr ⟨(ek_putf hS cl_15 (by decide) (by decide) rfl rfl qt2508), ?_⟩
  refine List.forall_mem_cons.mpr ⟨(ek_putf hS cl_15 (by decide) (by decide) rfl rfl qt2509), ?_⟩
  refine List.forall_mem_cons.mpr ⟨(ek_putf hS cl_15 (by decide) (by decide) rfl rfl qt2513), ?_⟩
  refine List.forall_mem_cons.mpr ⟨(ek_putf hS cl_15 (by decide) (by decide) rfl rfl qt2514), ?_⟩
  refine List.forall_mem_cons.mpr ⟨(ek_putf hS cl_15 (by decide) (by decide) rfl rfl qt2515), ?_⟩
  refine List.forall_mem_cons.mpr ⟨(ek_putf hS cl_15 (by decide) (by decide) rfl rfl qt2516), ?_⟩
  refine List.forall_mem_cons.mpr ⟨(ek_putf hS cl_15 (by decide) (by decide) rfl rfl qt2517), ?_⟩
  refine List.forall_mem_cons.mpr ⟨(ek_putf hS cl_15 (by decide) (by decide) rfl rfl qt2518), ?_⟩
  refine List.forall_mem_cons.mpr ⟨(ek_putf hS cl_15 (by decide) (by decide) rfl rfl qt2519), ?_⟩
  refine List.forall_mem_cons.mpr ⟨(ek_putf hS cl_15 (by decide) (by decide) rfl rfl qt2521), ?_⟩
  refine List.forall_mem_cons.mpr ⟨(ek_putf hS cl_15 (by decide) (by decide) rfl rfl qt2522), ?_⟩
  refine List.forall_mem_cons.mpr ⟨(ek_putf hS cl_15 (by decide) (by decide) rfl rfl qt2523), ?_⟩
  refine List.forall_mem_cons.mpr ⟨(ek_putf hS cl_15 (by decide) (by decide) rfl rfl qt2525), ?_⟩
  refine List.forall_mem_cons.mpr ⟨(ek_putf hS cl_15 (by decide) (by decide) rfl rfl qt2528), ?_⟩
  refine List.forall_mem_cons.mpr ⟨(ek_putf hS cl_15 (by decide) (by decide) rfl rfl qt2529), ?_⟩
  refine List.forall_mem_cons.mpr ⟨(ek_putf hS cl_15 (by decide) (by decide) rfl rfl qt2531), ?_⟩
  refine List.forall_mem_cons.mpr ⟨(ek_putf hS cl_15 (by decide) (by decide) rfl rfl qt2532), ?_⟩
  refine List.forall_mem_cons.mpr ⟨(ek_putf hS cl_15 (by decide) (by decide) rfl rfl qt2533), ?_⟩
  refine List.forall_mem_cons.mpr ⟨(ek_putf hS cl_15 (by decide) (by decide) rfl rfl qt2534), ?_⟩
  refine List.forall_mem_cons.mpr ⟨(ek_putf hS cl_15 (by decide) (by decide) rfl rfl qt2535), ?_⟩
  refine List.forall_mem_cons.mpr ⟨(ek_putf hS cl_15 (by decide) (by decide) rfl rfl qt2536), ?_⟩
  refine List.forall_mem_cons.mpr ⟨(ek_putf hS cl_15 (by decide) (by decide) rfl rfl qt2537), ?_⟩
  refine List.forall_mem_cons.mpr ⟨(ek_putf hS cl_15 (by decide) (by decide) rfl rfl qt2538), ?_⟩
  refine List.forall_mem_cons.mpr ⟨(ek_putf hS cl_15 (by decide) (by decide) rfl rfl qt2539), ?_⟩
  refine List.forall_mem_cons.mpr ⟨(ek_putf hS cl_15 (by decide) (by decide) rfl rfl qt2540), ?_⟩
  exact fun q h => absurd h List.not_mem_nil
def RT_X15_1 : List (Instr × Nat × Nat × Nat) := [(.putfield 122, 15, 57, 0), (.putfield 125, 15, 58, 0), (.putfield 128, 15, 59, 0), (.putfield 131, 15, 61, 0), (.putfield 134, 15, 62, 0), (.ldc 137, 100000, 0, 0), (.putfield 138, 15, 64, 0), (.putfield 141, 15, 65, 0), (.putfield 144, 15, 66, 0), (.putfield 147, 15, 67, 0), (.putfield 150, 15, 68, 0), (.putfield 153, 15, 69, 0), (.putfield 156, 15, 70, 0), (.putfield 159, 15, 71, 0), (.ldc 162, 250000, 0, 0), (.putfield 163, 15, 74, 0), (.putfield 166, 15, 75, 0), (.putfield 169, 15, 76, 0), (.ldc 172, 200000, 0, 0), (.putfield 173, 15, 77, 0), (.putfield 176, 15, 78, 0), (.putfield 179, 15, 79, 0), (.putfield 182, 15, 80, 0), (.putfield 185, 15, 81, 0), (.ldc 188, 60000, 0, 0), (.putfield 189, 15, 83, 0), (.putfield 192, 15, 85, 0), (.putfield 195, 15, 86, 0), (.putfield 198, 15, 88, 0), (.putfield 201, 15, 89, 0), (.newarray .long, 0, 0, 0), (.putfield 204, 15, 91, 0), (.putfield 208, 15, 92, 0), (.putfield 211, 15, 93, 0), (.putfield 214, 15, 95, 0), (.putfield 217, 15, 96, 0), (.putfield 220, 15, 97, 0), (.putfield 223, 15, 98, 0), (.putfield 226, 15, 99, 0), (.putfield 229, 15, 100, 0)]
set_option maxRecDepth 100000 in
set_option maxHeartbeats 4000000 in
theorem rt_X15_1 (hS : pv_ST B sa xv H0 args s) : ∀ q ∈ RT_X15_1, pv_EK (mkE B sa xv D cA H0) (PP L xs) GG "RegionHouseModel" q args s := by
  skip
  refine List.forall_mem_cons.mpr ⟨(ek_putf hS cl_15 (by decide) (by decide) rfl rfl qt2541), ?_⟩
  refine List.forall_mem_cons.mpr ⟨(ek_putf hS cl_15 (by decide) (by decide) rfl rfl qt2542), ?_⟩
  refine List.forall_mem_cons.mpr ⟨(ek_putf hS cl_15 (by decide) (by decide) rfl rfl qt2543), ?_⟩
  refine List.forall_mem_cons.mpr ⟨(ek_putf hS cl_15 (by decide) (by decide) rfl rfl qt2545), ?_⟩
  refine List.forall_mem_cons.mpr ⟨(ek_putf hS cl_15 (by decide) (by decide) rfl rfl qt2546), ?_⟩
  refine List.forall_mem_cons.mpr ⟨(ek_ldc hS qt2478), ?_⟩
  refine List.forall_mem_cons.mpr ⟨(ek_putf hS cl_15 (by decide) (by decide) rfl rfl qt2548), ?_⟩
  refine List.forall_mem_cons.mpr ⟨(ek_putf hS cl_15 (by decide) (by decide) rfl rfl qt2549), ?_⟩
  refine List.forall_mem_cons.mpr ⟨(ek_putf hS cl_15 (by decide) (by decide) rfl rfl qt2550), ?_⟩
  refine List.forall_mem_cons.mpr ⟨(ek_putf hS cl_15 (by decide) (by decide) rfl rfl qt2551), ?_⟩
  refine List.forall_mem_cons.mpr ⟨(ek_putf hS cl_15 (by decide) (by decide) rfl rfl qt2552), ?_⟩
  refine List.forall_mem_cons.mpr ⟨(ek_putf hS cl_15 (by decide) (by decide) rfl rfl qt2553), ?_⟩
  refine List.forall_mem_cons.mpr ⟨(ek_putf hS cl_15 (by decide) (by decide) rfl rfl qt2554), ?_⟩
  refine List.forall_mem_cons.mpr ⟨(ek_putf hS cl_15 (by decide) (by decide) rfl rfl qt2555), ?_⟩
  refine List.forall_mem_cons.mpr ⟨(ek_ldc hS qt2479), ?_⟩
  refine List.forall_mem_cons.mpr ⟨(ek_putf hS cl_15 (by decide) (by decide) rfl rfl qt2558), ?_⟩
  refine List.forall_mem_cons.mpr ⟨(ek_putf hS cl_15 (by decide) (by decide) rfl rfl qt2559), ?_⟩
  refine List.forall_mem_cons.mpr ⟨(ek_putf hS cl_15 (by decide) (by decide) rfl rfl qt2560), ?_⟩
  refine List.forall_mem_cons.mpr ⟨(ek_ldc hS qt2480), ?_⟩
  refine List.forall_mem_cons.mpr ⟨(ek_putf hS cl_15 (by decide) (by decide) rfl rfl qt2561), ?_⟩
  refine List.forall_mem_cons.mpr ⟨(ek_putf hS cl_15 (by decide) (by decide) rfl rfl qt2562), ?_⟩
  refine List.forall_mem_cons.mpr ⟨(ek_putf hS cl_15 (by decide) (by decide) rfl rfl qt2563), ?_⟩
  refine List.forall_mem_cons.mpr ⟨(ek_putf hS cl_15 (by decide) (by decide) rfl rfl qt2564), ?_⟩
  refine List.forall_mem_cons.mpr ⟨(ek_putf hS cl_15 (by decide) (by decide) rfl rfl qt2565), ?_⟩
  refine List.forall_mem_cons.mpr ⟨(ek_ldc hS qt2481), ?_⟩
  refine List.forall_mem_cons.mpr ⟨(ek_putf hS cl_15 (by decide) (by decide) rfl rfl qt2567), ?_⟩
  refine List.forall_mem_cons.mpr ⟨(ek_putf hS cl_15 (by decide) (by decide) rfl rfl qt2569), ?_⟩
  refine List.forall_mem_cons.mpr ⟨(ek_putf hS cl_15 (by decide) (by decide) rfl rfl qt2570), ?_⟩
  refine List.forall_mem_cons.mpr ⟨(ek_putf hS cl_15 (by decide) (by decide) rfl rfl qt2572), ?_⟩
  refine List.forall_mem_cons.mpr ⟨(ek_putf hS cl_15 (by decide) (by decide) rfl rfl qt2573), ?_⟩
  refine List.forall_mem_cons.mpr ⟨(ek_newa hS qt411), ?_⟩
  refine List.forall_mem_cons.mpr ⟨(ek_putf hS cl_15 (by decide) (by decide) rfl rfl qt2575), ?_⟩
  refine List.forall_mem_cons.mpr ⟨(ek_putf hS cl_15 (by decide) (by decide) rfl rfl qt2576), ?_⟩
  refine List.forall_mem_cons.mpr ⟨(ek_putf hS cl_15 (by decide) (by decide) rfl rfl qt2577), ?_⟩
  refine List.forall_mem_cons.mpr ⟨(ek_putf hS cl_15 (by decide) (by decide) rfl rfl qt2579), ?_⟩
  refine List.forall_mem_cons.mpr ⟨(ek_putf hS cl_15 (by decide) (by decide) rfl rfl qt2580), ?_⟩
  refine List.forall_mem_cons.mpr ⟨(ek_putf hS cl_15 (by decide) (by decide) rfl rfl qt2581), ?_⟩
  refine List.forall_mem_cons.mpr ⟨(ek_putf hS cl_15 (by decide) (by decide) rfl rfl qt2582), ?_⟩
  refine List.forall_mem_cons.mpr ⟨(ek_putf hS cl_15 (by decide) (by decide) rfl rfl qt2583), ?_⟩
  refine List.forall_mem_cons.mpr ⟨(ek_putf hS cl_15 (by decide) (by decide) rfl rfl qt2584), ?_⟩
  exact fun q h => absurd h List.not_mem_nil
def RT_X15_2 : List (Instr × Nat × Nat × Nat) := [(.putfield 232, 15, 101, 0), (.putfield 235, 15, 102, 0), (.putfield 238, 15, 104, 0), (.putfield 241, 15, 105, 0), (.putfield 244, 15, 106, 0), (.putfield 247, 15, 108, 0), (.putfield 250, 15, 109, 0), (.putfield 253, 15, 112, 0), (.putfield 256, 15, 114, 0), (.putfield 259, 15, 115, 0), (.putfield 262, 15, 118, 0), (.putfield 265, 15, 119, 0), (.putfield 269, 15, 120, 0), (.putfield 272, 15, 133, 0), (.putfield 275, 15, 134, 0), (.ldc_w 278, 130000, 0, 0), (.putfield 279, 15, 136, 0), (.putfield 282, 15, 137, 0), (.putfield 285, 15, 138, 0), (.putfield 288, 15, 140, 0), (.putfield 291, 15, 141, 0), (.putfield 294, 15, 142, 0), (.putfield 297, 15, 143, 0), (.putfield 300, 15, 145, 0), (.putfield 303, 15, 146, 0), (.putfield 306, 15, 147, 0), (.putfield 309, 15, 148, 0), (.putfield 312, 15, 149, 0), (.putfield 315, 15, 150, 0), (.putfield 318, 15, 151, 0), (.putfield 321, 15, 152, 0), (.putfield 324, 15, 153, 0), (.putfield 327, 15, 154, 0), (.putfield 330, 15, 155, 0), (.putfield 333, 15, 156, 0), (.putfield 336, 15, 157, 0), (.putfield 339, 15, 158, 0), (.putfield 342, 15, 159, 0), (.putfield 345, 15, 160, 0), (.putfield 348, 15, 161, 0)]
set_option maxRecDepth 100000 in
set_option maxHeartbeats 4000000 in
theorem rt_X15_2 (hS : pv_ST B sa xv H0 args s) : ∀ q ∈ RT_X15_2, pv_EK (mkE B sa xv D cA H0) (PP L xs) GG "RegionHouseModel" q args s := by
  skip
  refine List.forall_mem_cons.mpr ⟨(ek_putf hS cl_15 (by decide) (by decide) rfl rfl qt2585), ?_⟩
  refine List.forall_mem_cons.mpr ⟨(ek_putf hS cl_15 (by decide) (by decide) rfl rfl qt2586), ?_⟩
  refine List.forall_mem_cons.mpr ⟨(ek_putf hS cl_15 (by decide) (by decide) rfl rfl qt2588), ?_⟩
  refine List.forall_mem_cons.mpr ⟨(ek_putf hS cl_15 (by decide) (by decide) rfl rfl qt2589), ?_⟩
  refine List.forall_mem_cons.mpr ⟨(ek_putf hS cl_15 (by decide) (by decide) rfl rfl qt2590), ?_⟩
  refine List.forall_mem_cons.mpr ⟨(ek_putf hS cl_15 (by decide) (by decide) rfl rfl qt2592), ?_⟩
  refine List.forall_mem_cons.mpr ⟨(ek_putf hS cl_15 (by decide) (by decide) rfl rfl qt2593), ?_⟩
  refine List.forall_mem_cons.mpr ⟨(ek_putf hS cl_15 (by decide) (by decide) rfl rfl qt2596), ?_⟩
  refine List.forall_mem_cons.mpr ⟨(ek_putf hS cl_15 (by decide) (by decide) rfl rfl qt2598), ?_⟩
  refine List.forall_mem_cons.mpr ⟨(ek_putf hS cl_15 (by decide) (by decide) rfl rfl qt2599), ?_⟩
  refine List.forall_mem_cons.mpr ⟨(ek_putf hS cl_15 (by decide) (by decide) rfl rfl qt2602), ?_⟩
  refine List.forall_mem_cons.mpr ⟨(ek_put hS cl_15 (by decide) (by decide) rfl rfl qt2603), ?_⟩
  refine List.forall_mem_cons.mpr ⟨(ek_put hS cl_15 (by decide) (by decide) rfl rfl qt2604), ?_⟩
  refine List.forall_mem_cons.mpr ⟨(ek_putf hS cl_15 (by decide) (by decide) rfl rfl qt2617), ?_⟩
  refine List.forall_mem_cons.mpr ⟨(ek_putf hS cl_15 (by decide) (by decide) rfl rfl qt2618), ?_⟩
  refine List.forall_mem_cons.mpr ⟨(ek_ldcw hS qt2482), ?_⟩
  refine List.forall_mem_cons.mpr ⟨(ek_putf hS cl_15 (by decide) (by decide) rfl rfl qt2620), ?_⟩
  refine List.forall_mem_cons.mpr ⟨(ek_putf hS cl_15 (by decide) (by decide) rfl rfl qt2621), ?_⟩
  refine List.forall_mem_cons.mpr ⟨(ek_putf hS cl_15 (by decide) (by decide) rfl rfl qt2622), ?_⟩
  refine List.forall_mem_cons.mpr ⟨(ek_putf hS cl_15 (by decide) (by decide) rfl rfl qt2624), ?_⟩
  refine List.forall_mem_cons.mpr ⟨(ek_putf hS cl_15 (by decide) (by decide) rfl rfl qt2625), ?_⟩
  refine List.forall_mem_cons.mpr ⟨(ek_putf hS cl_15 (by decide) (by decide) rfl rfl qt2626), ?_⟩
  refine List.forall_mem_cons.mpr ⟨(ek_putf hS cl_15 (by decide) (by decide) rfl rfl qt2627), ?_⟩
  refine List.forall_mem_cons.mpr ⟨(ek_putf hS cl_15 (by decide) (by decide) rfl rfl qt2629), ?_⟩
  refine List.forall_mem_cons.mpr ⟨(ek_putf hS cl_15 (by decide) (by decide) rfl rfl qt2630), ?_⟩
  refine List.forall_mem_cons.mpr ⟨(ek_putf hS cl_15 (by decide) (by decide) rfl rfl qt2631), ?_⟩
  refine List.forall_mem_cons.mpr ⟨(ek_putf hS cl_15 (by decide) (by decide) rfl rfl qt2632), ?_⟩
  refine List.forall_mem_cons.mpr ⟨(ek_putf hS cl_15 (by decide) (by decide) rfl rfl qt2633), ?_⟩
  refine List.forall_mem_cons.mpr ⟨(ek_putf hS cl_15 (by decide) (by decide) rfl rfl qt2634), ?_⟩
  refine List.forall_mem_cons.mpr ⟨(ek_putf hS cl_15 (by decide) (by decide) rfl rfl qt2635), ?_⟩
  refine List.forall_mem_cons.mpr ⟨(ek_putf hS cl_15 (by decide) (by decide) rfl rfl qt2636), ?_⟩
  refine List.forall_mem_cons.mpr ⟨(ek_putf hS cl_15 (by decide) (by decide) rfl rfl qt2637), ?_⟩
  refine List.forall_mem_cons.mpr ⟨(ek_putf hS cl_15 (by decide) (by decide) rfl rfl qt2638), ?_⟩
  refine List.forall_mem_cons.mpr ⟨(ek_putf hS cl_15 (by decide) (by decide) rfl rfl qt2639), ?_⟩
  refine List.forall_mem_cons.mpr ⟨(ek_putf hS cl_15 (by decide) (by decide) rfl rfl qt2640), ?_⟩
  refine List.forall_mem_cons.mpr ⟨(ek_putf hS cl_15 (by decide) (by decide) rfl rfl qt2641), ?_⟩
  refine List.forall_mem_cons.mpr ⟨(ek_putf hS cl_15 (by decide) (by decide) rfl rfl qt2642), ?_⟩
  refine List.forall_mem_cons.mpr ⟨(ek_putf hS cl_15 (by decide) (by decide) rfl rfl qt2643), ?_⟩
  refine List.forall_mem_cons.mpr ⟨(ek_putf hS cl_15 (by decide) (by decide) rfl rfl qt2644), ?_⟩
  refine List.forall_mem_cons.mpr ⟨(ek_putf hS cl_15 (by decide) (by decide) rfl rfl qt2645), ?_⟩
  exact fun q h => absurd h List.not_mem_nil
def RT_X15_3 : List (Instr × Nat × Nat × Nat) := [(.putfield 351, 15, 163, 0), (.ldc_w 354, 201000, 0, 0), (.putfield 355, 15, 165, 0), (.putfield 358, 15, 166, 0), (.putfield 361, 15, 169, 0), (.putfield 364, 15, 170, 0), (.getfield 367, 15, 0, 0), (.putfield 367, 15, 0, 0), (.ldc2_w 370, 255, 0, 0), (.getfield 372, 15, 1, 0), (.getfield 7, 15, 2, 0), (.putfield 372, 15, 1, 0), (.putfield 385, 15, 13, 0), (.getfield 28, 15, 14, 0), (.putfield 757, 15, 122, 0), (.putfield 375, 15, 5, 0), (.putfield 378, 15, 6, 0), (.putfield 760, 15, 7, 0), (.invokevirtual 764, 285, 1, 15), (.getfield 375, 15, 5, 0), (.invokevirtual 767, 298, 1, 15), (.putfield 606, 15, 63, 0), (.putfield 625, 15, 72, 0), (.putfield 613, 15, 84, 0), (.putfield 622, 15, 73, 0), (.putfield 647, 15, 82, 0), (.putfield 745, 15, 103, 0), (.putfield 754, 15, 107, 0), (.getfield 195, 15, 86, 0), (.invokevirtual 610, 331, 4, 15), (.getfield 491, 15, 27, 0), (.invokevirtual 770, 332, 2, 15), (.invokevirtual 773, 348, 2, 15), (.getfield 760, 15, 7, 0), (.invokevirtual 776, 370, 3, 15), (.putfield 424, 15, 8, 0), (.putfield 427, 15, 15, 0), (.getfield 385, 15, 13, 0), (.invokestatic 434, 286, 1, 0), (.invokevirtual 430, 288, 2, 15)]
set_option maxRecDepth 100000 in
set_option maxHeartbeats 4000000 in
theorem rt_X15_3 (hS : pv_ST B sa xv H0 args s) : ∀ q ∈ RT_X15_3, pv_EK (mkE B sa xv D cA H0) (PP L xs) GG "RegionHouseModel" q args s := by
  skip
  refine List.forall_mem_cons.mpr ⟨(ek_putf hS cl_15 (by decide) (by decide) rfl rfl qt2647), ?_⟩
  refine List.forall_mem_cons.mpr ⟨(ek_ldcw hS qt2483), ?_⟩
  refine List.forall_mem_cons.mpr ⟨(ek_putf hS cl_15 (by decide) (by decide) rfl rfl qt2649), ?_⟩
  refine List.forall_mem_cons.mpr ⟨(ek_putf hS cl_15 (by decide) (by decide) rfl rfl qt2650), ?_⟩
  refine List.forall_mem_cons.mpr ⟨(ek_putf hS cl_15 (by decide) (by decide) rfl rfl qt2653), ?_⟩
  refine List.forall_mem_cons.mpr ⟨(ek_putf hS cl_15 (by decide) (by decide) rfl rfl qt2654), ?_⟩
  refine List.forall_mem_cons.mpr ⟨(ek_get hS cl_15 (by decide) (by decide) rfl qt2484), ?_⟩
  refine List.forall_mem_cons.mpr ⟨(ek_put hS cl_15 (by decide) (by decide) rfl rfl qt2484), ?_⟩
  refine List.forall_mem_cons.mpr ⟨(ek_ldl hS qt3006), ?_⟩
  refine List.forall_mem_cons.mpr ⟨(ek_get hS cl_15 (by decide) (by decide) rfl qt2485), ?_⟩
  refine List.forall_mem_cons.mpr ⟨(ek_get hS cl_15 (by decide) (by decide) rfl qt2486), ?_⟩
  refine List.forall_mem_cons.mpr ⟨(ek_put hS cl_15 (by decide) (by decide) rfl rfl qt2485), ?_⟩
  refine List.forall_mem_cons.mpr ⟨(ek_put hS cl_15 (by decide) (by decide) rfl rfl qt2497), ?_⟩
  refine List.forall_mem_cons.mpr ⟨(ek_get hS cl_15 (by decide) (by decide) rfl qt2498), ?_⟩
  refine List.forall_mem_cons.mpr ⟨(ek_put hS cl_15 (by decide) (by decide) rfl rfl qt2606), ?_⟩
  refine List.forall_mem_cons.mpr ⟨(ek_put hS cl_15 (by decide) (by decide) rfl rfl qt2489), ?_⟩
  refine List.forall_mem_cons.mpr ⟨(ek_put hS cl_15 (by decide) (by decide) rfl rfl qt2490), ?_⟩
  refine List.forall_mem_cons.mpr ⟨(ek_put hS cl_15 (by decide) (by decide) rfl rfl qt2491), ?_⟩
  refine List.forall_mem_cons.mpr ⟨(ek_iv hS gg_285 rfl (by decide) cl_15 (by decide) qt3011 qt3013 (lw_all_tbl qs120)), ?_⟩
  refine List.forall_mem_cons.mpr ⟨(ek_get hS cl_15 (by decide) (by decide) rfl qt2489), ?_⟩
  refine List.forall_mem_cons.mpr ⟨(ek_iv hS gg_298 rfl (by decide) cl_15 (by decide) qt3074 qt3076 (lw_all_tbl qs129)), ?_⟩
  refine List.forall_mem_cons.mpr ⟨(ek_put hS cl_15 (by decide) (by decide) rfl rfl qt2547), ?_⟩
  refine List.forall_mem_cons.mpr ⟨(ek_put hS cl_15 (by decide) (by decide) rfl rfl qt2556), ?_⟩
  refine List.forall_mem_cons.mpr ⟨(ek_put hS cl_15 (by decide) (by decide) rfl rfl qt2568), ?_⟩
  refine List.forall_mem_cons.mpr ⟨(ek_put hS cl_15 (by decide) (by decide) rfl rfl qt2557), ?_⟩
  refine List.forall_mem_cons.mpr ⟨(ek_put hS cl_15 (by decide) (by decide) rfl rfl qt2566), ?_⟩
  refine List.forall_mem_cons.mpr ⟨(ek_put hS cl_15 (by decide) (by decide) rfl rfl qt2587), ?_⟩
  refine List.forall_mem_cons.mpr ⟨(ek_put hS cl_15 (by decide) (by decide) rfl rfl qt2591), ?_⟩
  refine List.forall_mem_cons.mpr ⟨(ek_get hS cl_15 (by decide) (by decide) rfl qt2570), ?_⟩
  refine List.forall_mem_cons.mpr ⟨(ek_iv hS gg_331 rfl (by decide) cl_15 (by decide) qt3206 qt3208 (lw_all_tbl qs162)), ?_⟩
  refine List.forall_mem_cons.mpr ⟨(ek_get hS cl_15 (by decide) (by decide) rfl qt2511), ?_⟩
  refine List.forall_mem_cons.mpr ⟨(ek_iv hS gg_332 rfl (by decide) cl_15 (by decide) qt3211 qt3213 (lw_all_tbl qs163)), ?_⟩
  refine List.forall_mem_cons.mpr ⟨(ek_iv hS gg_348 rfl (by decide) cl_15 (by decide) qt3275 qt3277 (lw_all_tbl qs179)), ?_⟩
  refine List.forall_mem_cons.mpr ⟨(ek_get hS cl_15 (by decide) (by decide) rfl qt2491), ?_⟩
  refine List.forall_mem_cons.mpr ⟨(ek_iv hS gg_370 rfl (by decide) cl_15 (by decide) qt3363 qt3365 (lw_all_tbl qs201)), ?_⟩
  refine List.forall_mem_cons.mpr ⟨(ek_put hS cl_15 (by decide) (by decide) rfl rfl qt2492), ?_⟩
  refine List.forall_mem_cons.mpr ⟨(ek_put hS cl_15 (by decide) (by decide) rfl rfl qt2499), ?_⟩
  refine List.forall_mem_cons.mpr ⟨(ek_get hS cl_15 (by decide) (by decide) rfl qt2497), ?_⟩
  refine List.forall_mem_cons.mpr ⟨(ek_is hS gg_286 rfl (by decide) qt3015 qt3016), ?_⟩
  refine List.forall_mem_cons.mpr ⟨(ek_iv hS gg_288 rfl (by decide) cl_15 (by decide) qt3021 qt3023 (lw_all_tbl qs121)), ?_⟩
  exact fun q h => absurd h List.not_mem_nil
def RT_X15_4 : List (Instr × Nat × Nat × Nat) := [(.invokestatic 438, 289, 1, 0), (.invokevirtual 461, 290, 3, 15), (.invokevirtual 464, 296, 3, 15), (.invokevirtual 441, 291, 3, 15), (.invokevirtual 467, 297, 2, 15), (.invokevirtual 453, 294, 5, 15), (.invokestatic 381, 287, 3, 0), (.invokestatic 445, 292, 1, 0), (.invokevirtual 449, 293, 4, 15), (.invokevirtual 457, 295, 3, 15), (.ldc_w 398, 0, 0, 1), (.ldc_w 400, 1, 0, 1), (.ldc_w 402, 2, 0, 1), (.ldc_w 404, 3, 0, 1), (.ldc_w 406, 4, 0, 1), (.ldc_w 408, 5, 0, 1), (.ldc_w 410, 6, 0, 1), (.ldc_w 412, 7, 0, 1), (.ldc_w 414, 8, 0, 1), (.ldc_w 416, 9, 0, 1), (.ldc_w 418, 10, 0, 1), (.ldc_w 420, 11, 0, 1), (.ldc_w 422, 12, 0, 1), (.invokevirtual 388, 431, 1, 90), (.invokevirtual 394, 433, 2, 90), (.getfield 16, 15, 9, 0), (.getfield 424, 15, 8, 0), (.getfield 19, 15, 10, 0), (.getfield 22, 15, 11, 0), (.getfield 25, 15, 12, 0), (.getfield 427, 15, 15, 0), (.getfield 31, 15, 16, 0), (.putfield 470, 15, 17, 0), (.putfield 491, 15, 27, 0), (.putfield 503, 15, 36, 0), (.putfield 506, 15, 42, 0), (.putfield 479, 15, 46, 0), (.putfield 546, 15, 60, 0), (.invokevirtual 485, 299, 1, 15), (.getfield 470, 15, 17, 0)]
set_option maxRecDepth 100000 in
set_option maxHeartbeats 4000000 in
theorem rt_X15_4 (hS : pv_ST B sa xv H0 args s) : ∀ q ∈ RT_X15_4, pv_EK (mkE B sa xv D cA H0) (PP L xs) GG "RegionHouseModel" q args s := by
  skip
  refine List.forall_mem_cons.mpr ⟨(ek_is hS gg_289 rfl (by decide) qt3025 qt3026), ?_⟩
  refine List.forall_mem_cons.mpr ⟨(ek_iv hS gg_290 rfl (by decide) cl_15 (by decide) qt3028 qt3030 (lw_all_tbl qs122)), ?_⟩
  refine List.forall_mem_cons.mpr ⟨(ek_iv hS gg_296 rfl (by decide) cl_15 (by decide) qt3066 qt3068 (lw_all_tbl qs127)), ?_⟩
  refine List.forall_mem_cons.mpr ⟨(ek_iv hS gg_291 rfl (by decide) cl_15 (by decide) qt3032 qt3034 (lw_all_tbl qs123)), ?_⟩
  refine List.forall_mem_cons.mpr ⟨(ek_iv hS gg_297 rfl (by decide) cl_15 (by decide) qt3070 qt3072 (lw_all_tbl qs128)), ?_⟩
  refine List.forall_mem_cons.mpr ⟨(ek_iv hS gg_294 rfl (by decide) cl_15 (by decide) qt3058 qt3060 (lw_all_tbl qs125)), ?_⟩
  refine List.forall_mem_cons.mpr ⟨(ek_is hS gg_287 rfl (by decide) qt3018 qt3019), ?_⟩
  refine List.forall_mem_cons.mpr ⟨(ek_is hS gg_292 rfl (by decide) qt3036 qt3037), ?_⟩
  refine List.forall_mem_cons.mpr ⟨(ek_iv hS gg_293 rfl (by decide) cl_15 (by decide) qt3052 qt3054 (lw_all_tbl qs124)), ?_⟩
  refine List.forall_mem_cons.mpr ⟨(ek_iv hS gg_295 rfl (by decide) cl_15 (by decide) qt3062 qt3064 (lw_all_tbl qs126)), ?_⟩
  refine List.forall_mem_cons.mpr ⟨(ek_ldsw hS (k := 22) rfl (by decide)), ?_⟩
  refine List.forall_mem_cons.mpr ⟨(ek_ldsw hS (k := 23) rfl (by decide)), ?_⟩
  refine List.forall_mem_cons.mpr ⟨(ek_ldsw hS (k := 24) rfl (by decide)), ?_⟩
  refine List.forall_mem_cons.mpr ⟨(ek_ldsw hS (k := 25) rfl (by decide)), ?_⟩
  refine List.forall_mem_cons.mpr ⟨(ek_ldsw hS (k := 26) rfl (by decide)), ?_⟩
  refine List.forall_mem_cons.mpr ⟨(ek_ldsw hS (k := 27) rfl (by decide)), ?_⟩
  refine List.forall_mem_cons.mpr ⟨(ek_ldsw hS (k := 28) rfl (by decide)), ?_⟩
  refine List.forall_mem_cons.mpr ⟨(ek_ldsw hS (k := 29) rfl (by decide)), ?_⟩
  refine List.forall_mem_cons.mpr ⟨(ek_ldsw hS (k := 30) rfl (by decide)), ?_⟩
  refine List.forall_mem_cons.mpr ⟨(ek_ldsw hS (k := 31) rfl (by decide)), ?_⟩
  refine List.forall_mem_cons.mpr ⟨(ek_ldsw hS (k := 32) rfl (by decide)), ?_⟩
  refine List.forall_mem_cons.mpr ⟨(ek_ldsw hS (k := 33) rfl (by decide)), ?_⟩
  refine List.forall_mem_cons.mpr ⟨(ek_ldsw hS (k := 34) rfl (by decide)), ?_⟩
  refine List.forall_mem_cons.mpr ⟨(ek_ivs hS gg_431 rfl (by decide) qt3056 qt333 qt334), ?_⟩
  refine List.forall_mem_cons.mpr ⟨(ek_ivs hS gg_433 rfl (by decide) qt3057 qt343 qt344), ?_⟩
  refine List.forall_mem_cons.mpr ⟨(ek_get hS cl_15 (by decide) (by decide) rfl qt2493), ?_⟩
  refine List.forall_mem_cons.mpr ⟨(ek_get hS cl_15 (by decide) (by decide) rfl qt2492), ?_⟩
  refine List.forall_mem_cons.mpr ⟨(ek_get hS cl_15 (by decide) (by decide) rfl qt2494), ?_⟩
  refine List.forall_mem_cons.mpr ⟨(ek_get hS cl_15 (by decide) (by decide) rfl qt2495), ?_⟩
  refine List.forall_mem_cons.mpr ⟨(ek_get hS cl_15 (by decide) (by decide) rfl qt2496), ?_⟩
  refine List.forall_mem_cons.mpr ⟨(ek_get hS cl_15 (by decide) (by decide) rfl qt2499), ?_⟩
  refine List.forall_mem_cons.mpr ⟨(ek_get hS cl_15 (by decide) (by decide) rfl qt2500), ?_⟩
  refine List.forall_mem_cons.mpr ⟨(ek_put hS cl_15 (by decide) (by decide) rfl rfl qt2501), ?_⟩
  refine List.forall_mem_cons.mpr ⟨(ek_put hS cl_15 (by decide) (by decide) rfl rfl qt2511), ?_⟩
  refine List.forall_mem_cons.mpr ⟨(ek_put hS cl_15 (by decide) (by decide) rfl rfl qt2520), ?_⟩
  refine List.forall_mem_cons.mpr ⟨(ek_put hS cl_15 (by decide) (by decide) rfl rfl qt2526), ?_⟩
  refine List.forall_mem_cons.mpr ⟨(ek_put hS cl_15 (by decide) (by decide) rfl rfl qt2530), ?_⟩
  refine List.forall_mem_cons.mpr ⟨(ek_put hS cl_15 (by decide) (by decide) rfl rfl qt2544), ?_⟩
  refine List.forall_mem_cons.mpr ⟨(ek_iv hS gg_299 rfl (by decide) cl_15 (by decide) qt3078 qt3080 (lw_all_tbl qs130)), ?_⟩
  refine List.forall_mem_cons.mpr ⟨(ek_get hS cl_15 (by decide) (by decide) rfl qt2501), ?_⟩
  exact fun q h => absurd h List.not_mem_nil
def RT_X15_5 : List (Instr × Nat × Nat × Nat) := [(.invokevirtual 600, 300, 1, 15), (.putfield 494, 15, 28, 0), (.invokevirtual 591, 301, 1, 15), (.getfield 56, 15, 30, 0), (.getfield 59, 15, 31, 0), (.getfield 68, 15, 34, 0), (.getfield 479, 15, 46, 0), (.getfield 71, 15, 35, 0), (.getfield 503, 15, 36, 0), (.getfield 62, 15, 32, 0), (.getfield 250, 15, 109, 0), (.getfield 506, 15, 42, 0), (.invokevirtual 519, 303, 2, 15), (.invokevirtual 597, 308, 2, 15), (.invokevirtual 603, 330, 1, 15), (.invokevirtual 500, 302, 2, 15), (.getfield 53, 15, 29, 0), (.invokevirtual 594, 304, 2, 15), (.invokevirtual 522, 307, 2, 15), (.putfield 488, 15, 40, 0), (.putfield 482, 15, 43, 0), (.getfield 494, 15, 28, 0), (.invokevirtual 497, 305, 2, 15), (.invokevirtual 516, 306, 1, 15), (.getfield 488, 15, 40, 0), (.getfield 74, 15, 37, 0), (.getfield 83, 15, 41, 0), (.getfield 77, 15, 38, 0), (.getfield 80, 15, 39, 0), (.getfield 86, 15, 44, 0), (.getfield 89, 15, 45, 0), (.getfield 482, 15, 43, 0), (.putfield 473, 15, 18, 0), (.putfield 476, 15, 22, 0), (.putfield 509, 15, 26, 0), (.invokevirtual 512, 309, 4, 15), (.getfield 473, 15, 18, 0), (.invokevirtual 588, 310, 1, 15), (.getfield 65, 15, 33, 0), (.getfield 44, 15, 23, 0)]
set_option maxRecDepth 100000 in
set_option maxHeartbeats 4000000 in
theorem rt_X15_5 (hS : pv_ST B sa xv H0 args s) : ∀ q ∈ RT_X15_5, pv_EK (mkE B sa xv D cA H0) (PP L xs) GG "RegionHouseModel" q args s := by
  skip
  refine List.forall_mem_cons.mpr ⟨(ek_iv hS gg_300 rfl (by decide) cl_15 (by decide) qt3082 qt3084 (lw_all_tbl qs131)), ?_⟩
  refine List.forall_mem_cons.mpr ⟨(ek_put hS cl_15 (by decide) (by decide) rfl rfl qt2512), ?_⟩
  refine List.forall_mem_cons.mpr ⟨(ek_iv hS gg_301 rfl (by decide) cl_15 (by decide) qt3086 qt3088 (lw_all_tbl qs132)), ?_⟩
  refine List.forall_mem_cons.mpr ⟨(ek_get hS cl_15 (by decide) (by decide) rfl qt2514), ?_⟩
  refine List.forall_mem_cons.mpr ⟨(ek_get hS cl_15 (by decide) (by decide) rfl qt2515), ?_⟩
  refine List.forall_mem_cons.mpr ⟨(ek_get hS cl_15 (by decide) (by decide) rfl qt2518), ?_⟩
  refine List.forall_mem_cons.mpr ⟨(ek_get hS cl_15 (by decide) (by decide) rfl qt2530), ?_⟩
  refine List.forall_mem_cons.mpr ⟨(ek_get hS cl_15 (by decide) (by decide) rfl qt2519), ?_⟩
  refine List.forall_mem_cons.mpr ⟨(ek_get hS cl_15 (by decide) (by decide) rfl qt2520), ?_⟩
  refine List.forall_mem_cons.mpr ⟨(ek_get hS cl_15 (by decide) (by decide) rfl qt2516), ?_⟩
  refine List.forall_mem_cons.mpr ⟨(ek_get hS cl_15 (by decide) (by decide) rfl qt2593), ?_⟩
  refine List.forall_mem_cons.mpr ⟨(ek_get hS cl_15 (by decide) (by decide) rfl qt2526), ?_⟩
  refine List.forall_mem_cons.mpr ⟨(ek_iv hS gg_303 rfl (by decide) cl_15 (by decide) qt3094 qt3096 (lw_all_tbl qs134)), ?_⟩
  refine List.forall_mem_cons.mpr ⟨(ek_iv hS gg_308 rfl (by decide) cl_15 (by decide) qt3114 qt3116 (lw_all_tbl qs139)), ?_⟩
  refine List.forall_mem_cons.mpr ⟨(ek_iv hS gg_330 rfl (by decide) cl_15 (by decide) qt3202 qt3204 (lw_all_tbl qs161)), ?_⟩
  refine List.forall_mem_cons.mpr ⟨(ek_iv hS gg_302 rfl (by decide) cl_15 (by decide) qt3090 qt3092 (lw_all_tbl qs133)), ?_⟩
  refine List.forall_mem_cons.mpr ⟨(ek_get hS cl_15 (by decide) (by decide) rfl qt2513), ?_⟩
  refine List.forall_mem_cons.mpr ⟨(ek_iv hS gg_304 rfl (by decide) cl_15 (by decide) qt3098 qt3100 (lw_all_tbl qs135)), ?_⟩
  refine List.forall_mem_cons.mpr ⟨(ek_iv hS gg_307 rfl (by decide) cl_15 (by decide) qt3110 qt3112 (lw_all_tbl qs138)), ?_⟩
  refine List.forall_mem_cons.mpr ⟨(ek_put hS cl_15 (by decide) (by decide) rfl rfl qt2524), ?_⟩
  refine List.forall_mem_cons.mpr ⟨(ek_put hS cl_15 (by decide) (by decide) rfl rfl qt2527), ?_⟩
  refine List.forall_mem_cons.mpr ⟨(ek_get hS cl_15 (by decide) (by decide) rfl qt2512), ?_⟩
  refine List.forall_mem_cons.mpr ⟨(ek_iv hS gg_305 rfl (by decide) cl_15 (by decide) qt3102 qt3104 (lw_all_tbl qs136)), ?_⟩
  refine List.forall_mem_cons.mpr ⟨(ek_iv hS gg_306 rfl (by decide) cl_15 (by decide) qt3106 qt3108 (lw_all_tbl qs137)), ?_⟩
  refine List.forall_mem_cons.mpr ⟨(ek_get hS cl_15 (by decide) (by decide) rfl qt2524), ?_⟩
  refine List.forall_mem_cons.mpr ⟨(ek_get hS cl_15 (by decide) (by decide) rfl qt2521), ?_⟩
  refine List.forall_mem_cons.mpr ⟨(ek_get hS cl_15 (by decide) (by decide) rfl qt2525), ?_⟩
  refine List.forall_mem_cons.mpr ⟨(ek_get hS cl_15 (by decide) (by decide) rfl qt2522), ?_⟩
  refine List.forall_mem_cons.mpr ⟨(ek_get hS cl_15 (by decide) (by decide) rfl qt2523), ?_⟩
  refine List.forall_mem_cons.mpr ⟨(ek_get hS cl_15 (by decide) (by decide) rfl qt2528), ?_⟩
  refine List.forall_mem_cons.mpr ⟨(ek_get hS cl_15 (by decide) (by decide) rfl qt2529), ?_⟩
  refine List.forall_mem_cons.mpr ⟨(ek_get hS cl_15 (by decide) (by decide) rfl qt2527), ?_⟩
  refine List.forall_mem_cons.mpr ⟨(ek_put hS cl_15 (by decide) (by decide) rfl rfl qt2502), ?_⟩
  refine List.forall_mem_cons.mpr ⟨(ek_put hS cl_15 (by decide) (by decide) rfl rfl qt2506), ?_⟩
  refine List.forall_mem_cons.mpr ⟨(ek_put hS cl_15 (by decide) (by decide) rfl rfl qt2510), ?_⟩
  refine List.forall_mem_cons.mpr ⟨(ek_iv hS gg_309 rfl (by decide) cl_15 (by decide) qt3118 qt3120 (lw_all_tbl qs140)), ?_⟩
  refine List.forall_mem_cons.mpr ⟨(ek_get hS cl_15 (by decide) (by decide) rfl qt2502), ?_⟩
  refine List.forall_mem_cons.mpr ⟨(ek_iv hS gg_310 rfl (by decide) cl_15 (by decide) qt3122 qt3124 (lw_all_tbl qs141)), ?_⟩
  refine List.forall_mem_cons.mpr ⟨(ek_get hS cl_15 (by decide) (by decide) rfl qt2517), ?_⟩
  refine List.forall_mem_cons.mpr ⟨(ek_get hS cl_15 (by decide) (by decide) rfl qt2507), ?_⟩
  exact fun q h => absurd h List.not_mem_nil
def RT_X15_6 : List (Instr × Nat × Nat × Nat) := [(.getfield 35, 15, 19, 0), (.getfield 38, 15, 20, 0), (.getfield 41, 15, 21, 0), (.invokevirtual 567, 311, 1, 15), (.getfield 509, 15, 26, 0), (.invokevirtual 570, 312, 1, 15), (.invokevirtual 573, 316, 2, 15), (.invokevirtual 576, 319, 2, 15), (.invokevirtual 579, 321, 2, 15), (.invokevirtual 582, 322, 3, 15), (.invokevirtual 585, 324, 4, 15), (.invokevirtual 529, 313, 4, 15), (.getfield 110, 15, 53, 0), (.invokevirtual 533, 314, 4, 15), (.invokevirtual 536, 315, 1, 15), (.getfield 92, 15, 47, 0), (.getfield 95, 15, 48, 0), (.getfield 98, 15, 49, 0), (.getfield 101, 15, 50, 0), (.getfield 104, 15, 51, 0), (.getfield 107, 15, 52, 0), (.getfield 113, 15, 54, 0), (.getfield 116, 15, 55, 0), (.getfield 119, 15, 56, 0), (.getfield 122, 15, 57, 0), (.getfield 128, 15, 59, 0), (.getfield 476, 15, 22, 0), (.getfield 47, 15, 24, 0), (.getfield 50, 15, 25, 0), (.invokevirtual 539, 317, 3, 15), (.invokevirtual 542, 318, 1, 15), (.invokevirtual 526, 320, 1, 15), (.getfield 125, 15, 58, 0), (.getfield 546, 15, 60, 0), (.getfield 131, 15, 61, 0), (.invokevirtual 549, 323, 3, 15), (.invokevirtual 555, 325, 2, 15), (.invokevirtual 558, 327, 3, 15), (.invokevirtual 552, 326, 2, 15), (.invokevirtual 561, 328, 2, 15)]
set_option maxRecDepth 100000 in
set_option maxHeartbeats 4000000 in
theorem rt_X15_6 (hS : pv_ST B sa xv H0 args s) : ∀ q ∈ RT_X15_6, pv_EK (mkE B sa xv D cA H0) (PP L xs) GG "RegionHouseModel" q args s := by
  skip
  refine List.forall_mem_cons.mpr ⟨(ek_get hS cl_15 (by decide) (by decide) rfl qt2503), ?_⟩
  refine List.forall_mem_cons.mpr ⟨(ek_get hS cl_15 (by decide) (by decide) rfl qt2504), ?_⟩
  refine List.forall_mem_cons.mpr ⟨(ek_get hS cl_15 (by decide) (by decide) rfl qt2505), ?_⟩
  refine List.forall_mem_cons.mpr ⟨(ek_iv hS gg_311 rfl (by decide) cl_15 (by decide) qt3126 qt3128 (lw_all_tbl qs142)), ?_⟩
  refine List.forall_mem_cons.mpr ⟨(ek_get hS cl_15 (by decide) (by decide) rfl qt2510), ?_⟩
  refine List.forall_mem_cons.mpr ⟨(ek_iv hS gg_312 rfl (by decide) cl_15 (by decide) qt3130 qt3132 (lw_all_tbl qs143)), ?_⟩
  refine List.forall_mem_cons.mpr ⟨(ek_iv hS gg_316 rfl (by decide) cl_15 (by decide) qt3146 qt3148 (lw_all_tbl qs147)), ?_⟩
  refine List.forall_mem_cons.mpr ⟨(ek_iv hS gg_319 rfl (by decide) cl_15 (by decide) qt3158 qt3160 (lw_all_tbl qs150)), ?_⟩
  refine List.forall_mem_cons.mpr ⟨(ek_iv hS gg_321 rfl (by decide) cl_15 (by decide) qt3166 qt3168 (lw_all_tbl qs152)), ?_⟩
  refine List.forall_mem_cons.mpr ⟨(ek_iv hS gg_322 rfl (by decide) cl_15 (by decide) qt3170 qt3172 (lw_all_tbl qs153)), ?_⟩
  refine List.forall_mem_cons.mpr ⟨(ek_iv hS gg_324 rfl (by decide) cl_15 (by decide) qt3178 qt3180 (lw_all_tbl qs155)), ?_⟩
  refine List.forall_mem_cons.mpr ⟨(ek_iv hS gg_313 rfl (by decide) cl_15 (by decide) qt3134 qt3136 (lw_all_tbl qs144)), ?_⟩
  refine List.forall_mem_cons.mpr ⟨(ek_get hS cl_15 (by decide) (by decide) rfl qt2537), ?_⟩
  refine List.forall_mem_cons.mpr ⟨(ek_iv hS gg_314 rfl (by decide) cl_15 (by decide) qt3138 qt3140 (lw_all_tbl qs145)), ?_⟩
  refine List.forall_mem_cons.mpr ⟨(ek_iv hS gg_315 rfl (by decide) cl_15 (by decide) qt3142 qt3144 (lw_all_tbl qs146)), ?_⟩
  refine List.forall_mem_cons.mpr ⟨(ek_get hS cl_15 (by decide) (by decide) rfl qt2531), ?_⟩
  refine List.forall_mem_cons.mpr ⟨(ek_get hS cl_15 (by decide) (by decide) rfl qt2532), ?_⟩
  refine List.forall_mem_cons.mpr ⟨(ek_get hS cl_15 (by decide) (by decide) rfl qt2533), ?_⟩
  refine List.forall_mem_cons.mpr ⟨(ek_get hS cl_15 (by decide) (by decide) rfl qt2534), ?_⟩
  refine List.forall_mem_cons.mpr ⟨(ek_get hS cl_15 (by decide) (by decide) rfl qt2535), ?_⟩
  refine List.forall_mem_cons.mpr ⟨(ek_get hS cl_15 (by decide) (by decide) rfl qt2536), ?_⟩
  refine List.forall_mem_cons.mpr ⟨(ek_get hS cl_15 (by decide) (by decide) rfl qt2538), ?_⟩
  refine List.forall_mem_cons.mpr ⟨(ek_get hS cl_15 (by decide) (by decide) rfl qt2539), ?_⟩
  refine List.forall_mem_cons.mpr ⟨(ek_get hS cl_15 (by decide) (by decide) rfl qt2540), ?_⟩
  refine List.forall_mem_cons.mpr ⟨(ek_get hS cl_15 (by decide) (by decide) rfl qt2541), ?_⟩
  refine List.forall_mem_cons.mpr ⟨(ek_get hS cl_15 (by decide) (by decide) rfl qt2543), ?_⟩
  refine List.forall_mem_cons.mpr ⟨(ek_get hS cl_15 (by decide) (by decide) rfl qt2506), ?_⟩
  refine List.forall_mem_cons.mpr ⟨(ek_get hS cl_15 (by decide) (by decide) rfl qt2508), ?_⟩
  refine List.forall_mem_cons.mpr ⟨(ek_get hS cl_15 (by decide) (by decide) rfl qt2509), ?_⟩
  refine List.forall_mem_cons.mpr ⟨(ek_iv hS gg_317 rfl (by decide) cl_15 (by decide) qt3150 qt3152 (lw_all_tbl qs148)), ?_⟩
  refine List.forall_mem_cons.mpr ⟨(ek_iv hS gg_318 rfl (by decide) cl_15 (by decide) qt3154 qt3156 (lw_all_tbl qs149)), ?_⟩
  refine List.forall_mem_cons.mpr ⟨(ek_iv hS gg_320 rfl (by decide) cl_15 (by decide) qt3162 qt3164 (lw_all_tbl qs151)), ?_⟩
  refine List.forall_mem_cons.mpr ⟨(ek_get hS cl_15 (by decide) (by decide) rfl qt2542), ?_⟩
  refine List.forall_mem_cons.mpr ⟨(ek_get hS cl_15 (by decide) (by decide) rfl qt2544), ?_⟩
  refine List.forall_mem_cons.mpr ⟨(ek_get hS cl_15 (by decide) (by decide) rfl qt2545), ?_⟩
  refine List.forall_mem_cons.mpr ⟨(ek_iv hS gg_323 rfl (by decide) cl_15 (by decide) qt3174 qt3176 (lw_all_tbl qs154)), ?_⟩
  refine List.forall_mem_cons.mpr ⟨(ek_iv hS gg_325 rfl (by decide) cl_15 (by decide) qt3182 qt3184 (lw_all_tbl qs156)), ?_⟩
  refine List.forall_mem_cons.mpr ⟨(ek_iv hS gg_327 rfl (by decide) cl_15 (by decide) qt3190 qt3192 (lw_all_tbl qs158)), ?_⟩
  refine List.forall_mem_cons.mpr ⟨(ek_iv hS gg_326 rfl (by decide) cl_15 (by decide) qt3186 qt3188 (lw_all_tbl qs157)), ?_⟩
  refine List.forall_mem_cons.mpr ⟨(ek_iv hS gg_328 rfl (by decide) cl_15 (by decide) qt3194 qt3196 (lw_all_tbl qs159)), ?_⟩
  exact fun q h => absurd h List.not_mem_nil
def RT_X15_7 : List (Instr × Nat × Nat × Nat) := [(.invokevirtual 564, 329, 4, 15), (.getfield 134, 15, 62, 0), (.getfield 606, 15, 63, 0), (.ldc_w 609, 99999, 0, 0), (.getfield 138, 15, 64, 0), (.getfield 141, 15, 65, 0), (.getfield 144, 15, 66, 0), (.getfield 147, 15, 67, 0), (.getfield 150, 15, 68, 0), (.getfield 153, 15, 69, 0), (.getfield 156, 15, 70, 0), (.getfield 192, 15, 85, 0), (.getfield 179, 15, 79, 0), (.invokevirtual 653, 333, 1, 15), (.getfield 182, 15, 80, 0), (.getfield 185, 15, 81, 0), (.getfield 176, 15, 78, 0), (.invokevirtual 665, 334, 3, 15), (.invokevirtual 668, 340, 3, 15), (.getfield 189, 15, 83, 0), (.invokevirtual 656, 335, 2, 15), (.invokevirtual 616, 337, 2, 15), (.getfield 647, 15, 82, 0), (.getfield 625, 15, 72, 0), (.invokevirtual 650, 336, 2, 15), (.getfield 217, 15, 96, 0), (.getfield 223, 15, 98, 0), (.getfield 220, 15, 97, 0), (.getfield 169, 15, 76, 0), (.invokevirtual 641, 338, 2, 15), (.getfield 159, 15, 71, 0), (.invokevirtual 644, 339, 3, 15), (.getfield 613, 15, 84, 0), (.getfield 163, 15, 74, 0), (.getfield 622, 15, 73, 0), (.getfield 166, 15, 75, 0), (.invokevirtual 659, 341, 3, 15), (.invokevirtual 662, 347, 4, 15), (.getfield 173, 15, 77, 0), (.invokevirtual 628, 342, 3, 15)]
set_option maxRecDepth 100000 in
set_option maxHeartbeats 4000000 in
theorem rt_X15_7 (hS : pv_ST B sa xv H0 args s) : ∀ q ∈ RT_X15_7, pv_EK (mkE B sa xv D cA H0) (PP L xs) GG "RegionHouseModel" q args s := by
  skip
  refine List.forall_mem_cons.mpr ⟨(ek_iv hS gg_329 rfl (by decide) cl_15 (by decide) qt3198 qt3200 (lw_all_tbl qs160)), ?_⟩
  refine List.forall_mem_cons.mpr ⟨(ek_get hS cl_15 (by decide) (by decide) rfl qt2546), ?_⟩
  refine List.forall_mem_cons.mpr ⟨(ek_get hS cl_15 (by decide) (by decide) rfl qt2547), ?_⟩
  refine List.forall_mem_cons.mpr ⟨(ek_ldcw hS qt3210), ?_⟩
  refine List.forall_mem_cons.mpr ⟨(ek_get hS cl_15 (by decide) (by decide) rfl qt2548), ?_⟩
  refine List.forall_mem_cons.mpr ⟨(ek_get hS cl_15 (by decide) (by decide) rfl qt2549), ?_⟩
  refine List.forall_mem_cons.mpr ⟨(ek_get hS cl_15 (by decide) (by decide) rfl qt2550), ?_⟩
  refine List.forall_mem_cons.mpr ⟨(ek_get hS cl_15 (by decide) (by decide) rfl qt2551), ?_⟩
  refine List.forall_mem_cons.mpr ⟨(ek_get hS cl_15 (by decide) (by decide) rfl qt2552), ?_⟩
  refine List.forall_mem_cons.mpr ⟨(ek_get hS cl_15 (by decide) (by decide) rfl qt2553), ?_⟩
  refine List.forall_mem_cons.mpr ⟨(ek_get hS cl_15 (by decide) (by decide) rfl qt2554), ?_⟩
  refine List.forall_mem_cons.mpr ⟨(ek_get hS cl_15 (by decide) (by decide) rfl qt2569), ?_⟩
  refine List.forall_mem_cons.mpr ⟨(ek_get hS cl_15 (by decide) (by decide) rfl qt2563), ?_⟩
  refine List.forall_mem_cons.mpr ⟨(ek_iv hS gg_333 rfl (by decide) cl_15 (by decide) qt3215 qt3217 (lw_all_tbl qs164)), ?_⟩
  refine List.forall_mem_cons.mpr ⟨(ek_get hS cl_15 (by decide) (by decide) rfl qt2564), ?_⟩
  refine List.forall_mem_cons.mpr ⟨(ek_get hS cl_15 (by decide) (by decide) rfl qt2565), ?_⟩
  refine List.forall_mem_cons.mpr ⟨(ek_get hS cl_15 (by decide) (by decide) rfl qt2562), ?_⟩
  refine List.forall_mem_cons.mpr ⟨(ek_iv hS gg_334 rfl (by decide) cl_15 (by decide) qt3219 qt3221 (lw_all_tbl qs165)), ?_⟩
  refine List.forall_mem_cons.mpr ⟨(ek_iv hS gg_340 rfl (by decide) cl_15 (by decide) qt3243 qt3245 (lw_all_tbl qs171)), ?_⟩
  refine List.forall_mem_cons.mpr ⟨(ek_get hS cl_15 (by decide) (by decide) rfl qt2567), ?_⟩
  refine List.forall_mem_cons.mpr ⟨(ek_iv hS gg_335 rfl (by decide) cl_15 (by decide) qt3223 qt3225 (lw_all_tbl qs166)), ?_⟩
  refine List.forall_mem_cons.mpr ⟨(ek_iv hS gg_337 rfl (by decide) cl_15 (by decide) qt3231 qt3233 (lw_all_tbl qs168)), ?_⟩
  refine List.forall_mem_cons.mpr ⟨(ek_get hS cl_15 (by decide) (by decide) rfl qt2566), ?_⟩
  refine List.forall_mem_cons.mpr ⟨(ek_get hS cl_15 (by decide) (by decide) rfl qt2556), ?_⟩
  refine List.forall_mem_cons.mpr ⟨(ek_iv hS gg_336 rfl (by decide) cl_15 (by decide) qt3227 qt3229 (lw_all_tbl qs167)), ?_⟩
  refine List.forall_mem_cons.mpr ⟨(ek_get hS cl_15 (by decide) (by decide) rfl qt2580), ?_⟩
  refine List.forall_mem_cons.mpr ⟨(ek_get hS cl_15 (by decide) (by decide) rfl qt2582), ?_⟩
  refine List.forall_mem_cons.mpr ⟨(ek_get hS cl_15 (by decide) (by decide) rfl qt2581), ?_⟩
  refine List.forall_mem_cons.mpr ⟨(ek_get hS cl_15 (by decide) (by decide) rfl qt2560), ?_⟩
  refine List.forall_mem_cons.mpr ⟨(ek_iv hS gg_338 rfl (by decide) cl_15 (by decide) qt3235 qt3237 (lw_all_tbl qs169)), ?_⟩
  refine List.forall_mem_cons.mpr ⟨(ek_get hS cl_15 (by decide) (by decide) rfl qt2555), ?_⟩
  refine List.forall_mem_cons.mpr ⟨(ek_iv hS gg_339 rfl (by decide) cl_15 (by decide) qt3239 qt3241 (lw_all_tbl qs170)), ?_⟩
  refine List.forall_mem_cons.mpr ⟨(ek_get hS cl_15 (by decide) (by decide) rfl qt2568), ?_⟩
  refine List.forall_mem_cons.mpr ⟨(ek_get hS cl_15 (by decide) (by decide) rfl qt2558), ?_⟩
  refine List.forall_mem_cons.mpr ⟨(ek_get hS cl_15 (by decide) (by decide) rfl qt2557), ?_⟩
  refine List.forall_mem_cons.mpr ⟨(ek_get hS cl_15 (by decide) (by decide) rfl qt2559), ?_⟩
  refine List.forall_mem_cons.mpr ⟨(ek_iv hS gg_341 rfl (by decide) cl_15 (by decide) qt3247 qt3249 (lw_all_tbl qs172)), ?_⟩
  refine List.forall_mem_cons.mpr ⟨(ek_iv hS gg_347 rfl (by decide) cl_15 (by decide) qt3271 qt3273 (lw_all_tbl qs178)), ?_⟩
  refine List.forall_mem_cons.mpr ⟨(ek_get hS cl_15 (by decide) (by decide) rfl qt2561), ?_⟩
  refine List.forall_mem_cons.mpr ⟨(ek_iv hS gg_342 rfl (by decide) cl_15 (by decide) qt3251 qt3253 (lw_all_tbl qs173)), ?_⟩
  exact fun q h => absurd h List.not_mem_nil
def RT_X15_8 : List (Instr × Nat × Nat × Nat) := [(.invokevirtual 632, 344, 3, 15), (.invokevirtual 635, 346, 2, 15), (.invokevirtual 619, 343, 3, 15), (.invokevirtual 638, 345, 2, 15), (.invokevirtual 721, 349, 2, 15), (.getfield 671, 15, 87, 0), (.invokevirtual 724, 352, 2, 15), (.invokevirtual 727, 355, 2, 15), (.invokevirtual 730, 358, 3, 15), (.invokevirtual 733, 363, 2, 15), (.invokevirtual 736, 364, 2, 15), (.getfield 229, 15, 100, 0), (.getfield 712, 15, 110, 0), (.getfield 715, 15, 111, 0), (.invokevirtual 739, 366, 2, 15), (.putfield 671, 15, 87, 0), (.invokevirtual 674, 350, 2, 15), (.invokevirtual 677, 351, 2, 15), (.putfield 680, 15, 90, 0), (.getfield 198, 15, 88, 0), (.getfield 680, 15, 90, 0), (.getfield 211, 15, 93, 0), (.invokevirtual 686, 353, 4, 15), (.putfield 690, 15, 94, 0), (.getfield 690, 15, 94, 0), (.getfield 208, 15, 92, 0), (.getfield 204, 15, 91, 0), (.invokevirtual 683, 354, 3, 15), (.getfield 201, 15, 89, 0), (.invokevirtual 693, 356, 4, 15), (.invokevirtual 696, 357, 4, 15), (.invokevirtual 699, 359, 3, 15), (.invokevirtual 702, 360, 3, 15), (.invokevirtual 705, 361, 3, 15), (.invokevirtual 708, 362, 5, 15), (.putfield 712, 15, 110, 0), (.putfield 715, 15, 111, 0), (.invokevirtual 718, 365, 2, 15), (.getfield 214, 15, 95, 0), (.getfield 226, 15, 99, 0)]
set_option maxRecDepth 100000 in
set_option maxHeartbeats 4000000 in
theorem rt_X15_8 (hS : pv_ST B sa xv H0 args s) : ∀ q ∈ RT_X15_8, pv_EK (mkE B sa xv D cA H0) (PP L xs) GG "RegionHouseModel" q args s := by
  skip
  refine List.forall_mem_cons.mpr ⟨(ek_iv hS gg_344 rfl (by decide) cl_15 (by decide) qt3259 qt3261 (lw_all_tbl qs175)), ?_⟩
  refine List.forall_mem_cons.mpr ⟨(ek_iv hS gg_346 rfl (by decide) cl_15 (by decide) qt3267 qt3269 (lw_all_tbl qs177)), ?_⟩
  refine List.forall_mem_cons.mpr ⟨(ek_iv hS gg_343 rfl (by decide) cl_15 (by decide) qt3255 qt3257 (lw_all_tbl qs174)), ?_⟩
  refine List.forall_mem_cons.mpr ⟨(ek_iv hS gg_345 rfl (by decide) cl_15 (by decide) qt3263 qt3265 (lw_all_tbl qs176)), ?_⟩
  refine List.forall_mem_cons.mpr ⟨(ek_iv hS gg_349 rfl (by decide) cl_15 (by decide) qt3279 qt3281 (lw_all_tbl qs180)), ?_⟩
  refine List.forall_mem_cons.mpr ⟨(ek_get hS cl_15 (by decide) (by decide) rfl qt2571), ?_⟩
  refine List.forall_mem_cons.mpr ⟨(ek_iv hS gg_352 rfl (by decide) cl_15 (by decide) qt3291 qt3293 (lw_all_tbl qs183)), ?_⟩
  refine List.forall_mem_cons.mpr ⟨(ek_iv hS gg_355 rfl (by decide) cl_15 (by decide) qt3303 qt3305 (lw_all_tbl qs186)), ?_⟩
  refine List.forall_mem_cons.mpr ⟨(ek_iv hS gg_358 rfl (by decide) cl_15 (by decide) qt3315 qt3317 (lw_all_tbl qs189)), ?_⟩
  refine List.forall_mem_cons.mpr ⟨(ek_iv hS gg_363 rfl (by decide) cl_15 (by decide) qt3335 qt3337 (lw_all_tbl qs194)), ?_⟩
  refine List.forall_mem_cons.mpr ⟨(ek_iv hS gg_364 rfl (by decide) cl_15 (by decide) qt3339 qt3341 (lw_all_tbl qs195)), ?_⟩
  refine List.forall_mem_cons.mpr ⟨(ek_get hS cl_15 (by decide) (by decide) rfl qt2584), ?_⟩
  refine List.forall_mem_cons.mpr ⟨(ek_get hS cl_15 (by decide) (by decide) rfl qt2594), ?_⟩
  refine List.forall_mem_cons.mpr ⟨(ek_get hS cl_15 (by decide) (by decide) rfl qt2595), ?_⟩
  refine List.forall_mem_cons.mpr ⟨(ek_iv hS gg_366 rfl (by decide) cl_15 (by decide) qt3347 qt3349 (lw_all_tbl qs197)), ?_⟩
  refine List.forall_mem_cons.mpr ⟨(ek_put hS cl_15 (by decide) (by decide) rfl rfl qt2571), ?_⟩
  refine List.forall_mem_cons.mpr ⟨(ek_iv hS gg_350 rfl (by decide) cl_15 (by decide) qt3283 qt3285 (lw_all_tbl qs181)), ?_⟩
  refine List.forall_mem_cons.mpr ⟨(ek_iv hS gg_351 rfl (by decide) cl_15 (by decide) qt3287 qt3289 (lw_all_tbl qs182)), ?_⟩
  refine List.forall_mem_cons.mpr ⟨(ek_put hS cl_15 (by decide) (by decide) rfl rfl qt2574), ?_⟩
  refine List.forall_mem_cons.mpr ⟨(ek_get hS cl_15 (by decide) (by decide) rfl qt2572), ?_⟩
  refine List.forall_mem_cons.mpr ⟨(ek_get hS cl_15 (by decide) (by decide) rfl qt2574), ?_⟩
  refine List.forall_mem_cons.mpr ⟨(ek_get hS cl_15 (by decide) (by decide) rfl qt2577), ?_⟩
  refine List.forall_mem_cons.mpr ⟨(ek_iv hS gg_353 rfl (by decide) cl_15 (by decide) qt3295 qt3297 (lw_all_tbl qs184)), ?_⟩
  refine List.forall_mem_cons.mpr ⟨(ek_put hS cl_15 (by decide) (by decide) rfl rfl qt2578), ?_⟩
  refine List.forall_mem_cons.mpr ⟨(ek_get hS cl_15 (by decide) (by decide) rfl qt2578), ?_⟩
  refine List.forall_mem_cons.mpr ⟨(ek_get hS cl_15 (by decide) (by decide) rfl qt2576), ?_⟩
  refine List.forall_mem_cons.mpr ⟨(ek_get hS cl_15 (by decide) (by decide) rfl qt2575), ?_⟩
  refine List.forall_mem_cons.mpr ⟨(ek_iv hS gg_354 rfl (by decide) cl_15 (by decide) qt3299 qt3301 (lw_all_tbl qs185)), ?_⟩
  refine List.forall_mem_cons.mpr ⟨(ek_get hS cl_15 (by decide) (by decide) rfl qt2573), ?_⟩
  refine List.forall_mem_cons.mpr ⟨(ek_iv hS gg_356 rfl (by decide) cl_15 (by decide) qt3307 qt3309 (lw_all_tbl qs187)), ?_⟩
  refine List.forall_mem_cons.mpr ⟨(ek_iv hS gg_357 rfl (by decide) cl_15 (by decide) qt3311 qt3313 (lw_all_tbl qs188)), ?_⟩
  refine List.forall_mem_cons.mpr ⟨(ek_iv hS gg_359 rfl (by decide) cl_15 (by decide) qt3319 qt3321 (lw_all_tbl qs190)), ?_⟩
  refine List.forall_mem_cons.mpr ⟨(ek_iv hS gg_360 rfl (by decide) cl_15 (by decide) qt3323 qt3325 (lw_all_tbl qs191)), ?_⟩
  refine List.forall_mem_cons.mpr ⟨(ek_iv hS gg_361 rfl (by decide) cl_15 (by decide) qt3327 qt3329 (lw_all_tbl qs192)), ?_⟩
  refine List.forall_mem_cons.mpr ⟨(ek_iv hS gg_362 rfl (by decide) cl_15 (by decide) qt3331 qt3333 (lw_all_tbl qs193)), ?_⟩
  refine List.forall_mem_cons.mpr ⟨(ek_put hS cl_15 (by decide) (by decide) rfl rfl qt2594), ?_⟩
  refine List.forall_mem_cons.mpr ⟨(ek_put hS cl_15 (by decide) (by decide) rfl rfl qt2595), ?_⟩
  refine List.forall_mem_cons.mpr ⟨(ek_iv hS gg_365 rfl (by decide) cl_15 (by decide) qt3343 qt3345 (lw_all_tbl qs196)), ?_⟩
  refine List.forall_mem_cons.mpr ⟨(ek_get hS cl_15 (by decide) (by decide) rfl qt2579), ?_⟩
  refine List.forall_mem_cons.mpr ⟨(ek_get hS cl_15 (by decide) (by decide) rfl qt2583), ?_⟩
  exact fun q h => absurd h List.not_mem_nil
def RT_X15_9 : List (Instr × Nat × Nat × Nat) := [(.invokevirtual 742, 367, 3, 15), (.getfield 232, 15, 101, 0), (.getfield 745, 15, 103, 0), (.getfield 238, 15, 104, 0), (.invokevirtual 748, 368, 3, 15), (.invokevirtual 751, 369, 4, 15), (.getfield 235, 15, 102, 0), (.getfield 241, 15, 105, 0), (.getfield 754, 15, 107, 0), (.getfield 247, 15, 108, 0), (.getfield 244, 15, 106, 0), (.getfield 378, 15, 6, 0), (.putfield 780, 15, 3, 0), (.putfield 788, 15, 113, 0), (.getfield 256, 15, 114, 0), (.getfield 259, 15, 115, 0), (.invokevirtual 804, 373, 3, 15), (.getfield 780, 15, 3, 0), (.ldc_w 807, 20, 0, 1), (.invokevirtual 809, 374, 4, 15), (.invokevirtual 791, 375, 1, 15), (.invokevirtual 783, 376, 2, 15), (.invokevirtual 813, 379, 2, 15), (.invokevirtual 816, 380, 3, 15), (.ldc_w 819, 21, 0, 1), (.invokevirtual 794, 377, 2, 15), (.invokevirtual 798, 378, 2, 15), (.getfield 788, 15, 113, 0), (.getfield 13, 15, 4, 0), (.getfield 253, 15, 112, 0), (.ldc2_w 786, 10, 0, 0), (.invokevirtual 801, 381, 2, 15), (.invokevirtual 842, 383, 2, 15), (.putfield 821, 15, 116, 0), (.ldc_w 845, 13, 0, 1), (.invokevirtual 847, 384, 2, 15), (.ldc_w 850, 16, 0, 1), (.putfield 824, 15, 117, 0), (.invokevirtual 827, 385, 2, 15), (.getfield 824, 15, 117, 0)]
set_option maxRecDepth 100000 in
set_option maxHeartbeats 4000000 in
theorem rt_X15_9 (hS : pv_ST B sa xv H0 args s) : ∀ q ∈ RT_X15_9, pv_EK (mkE B sa xv D cA H0) (PP L xs) GG "RegionHouseModel" q args s := by
  skip
  refine List.forall_mem_cons.mpr ⟨(ek_iv hS gg_367 rfl (by decide) cl_15 (by decide) qt3351 qt3353 (lw_all_tbl qs198)), ?_⟩
  refine List.forall_mem_cons.mpr ⟨(ek_get hS cl_15 (by decide) (by decide) rfl qt2585), ?_⟩
  refine List.forall_mem_cons.mpr ⟨(ek_get hS cl_15 (by decide) (by decide) rfl qt2587), ?_⟩
  refine List.forall_mem_cons.mpr ⟨(ek_get hS cl_15 (by decide) (by decide) rfl qt2588), ?_⟩
  refine List.forall_mem_cons.mpr ⟨(ek_iv hS gg_368 rfl (by decide) cl_15 (by decide) qt3355 qt3357 (lw_all_tbl qs199)), ?_⟩
  refine List.forall_mem_cons.mpr ⟨(ek_iv hS gg_369 rfl (by decide) cl_15 (by decide) qt3359 qt3361 (lw_all_tbl qs200)), ?_⟩
  refine List.forall_mem_cons.mpr ⟨(ek_get hS cl_15 (by decide) (by decide) rfl qt2586), ?_⟩
  refine List.forall_mem_cons.mpr ⟨(ek_get hS cl_15 (by decide) (by decide) rfl qt2589), ?_⟩
  refine List.forall_mem_cons.mpr ⟨(ek_get hS cl_15 (by decide) (by decide) rfl qt2591), ?_⟩
  refine List.forall_mem_cons.mpr ⟨(ek_get hS cl_15 (by decide) (by decide) rfl qt2592), ?_⟩
  refine List.forall_mem_cons.mpr ⟨(ek_get hS cl_15 (by decide) (by decide) rfl qt2590), ?_⟩
  refine List.forall_mem_cons.mpr ⟨(ek_get hS cl_15 (by decide) (by decide) rfl qt2490), ?_⟩
  refine List.forall_mem_cons.mpr ⟨(ek_put hS cl_15 (by decide) (by decide) rfl rfl qt2487), ?_⟩
  refine List.forall_mem_cons.mpr ⟨(ek_put hS cl_15 (by decide) (by decide) rfl rfl qt2597), ?_⟩
  refine List.forall_mem_cons.mpr ⟨(ek_get hS cl_15 (by decide) (by decide) rfl qt2598), ?_⟩
  refine List.forall_mem_cons.mpr ⟨(ek_get hS cl_15 (by decide) (by decide) rfl qt2599), ?_⟩
  refine List.forall_mem_cons.mpr ⟨(ek_iv hS gg_373 rfl (by decide) cl_15 (by decide) qt3375 qt3377 (lw_all_tbl qs202)), ?_⟩
  refine List.forall_mem_cons.mpr ⟨(ek_get hS cl_15 (by decide) (by decide) rfl qt2487), ?_⟩
  refine List.forall_mem_cons.mpr ⟨(ek_ldsw hS (k := 35) rfl (by decide)), ?_⟩
  refine List.forall_mem_cons.mpr ⟨(ek_iv hS gg_374 rfl (by decide) cl_15 (by decide) qt3380 qt3382 (lw_all_tbl qs203)), ?_⟩
  refine List.forall_mem_cons.mpr ⟨(ek_iv hS gg_375 rfl (by decide) cl_15 (by decide) qt3384 qt3386 (lw_all_tbl qs204)), ?_⟩
  refine List.forall_mem_cons.mpr ⟨(ek_iv hS gg_376 rfl (by decide) cl_15 (by decide) qt3388 qt3390 (lw_all_tbl qs205)), ?_⟩
  refine List.forall_mem_cons.mpr ⟨(ek_iv hS gg_379 rfl (by decide) cl_15 (by decide) qt3401 qt3403 (lw_all_tbl qs208)), ?_⟩
  refine List.forall_mem_cons.mpr ⟨(ek_iv hS gg_380 rfl (by decide) cl_15 (by decide) qt3405 qt3407 (lw_all_tbl qs209)), ?_⟩
  refine List.forall_mem_cons.mpr ⟨(ek_ldsw hS (k := 36) rfl (by decide)), ?_⟩
  refine List.forall_mem_cons.mpr ⟨(ek_iv hS gg_377 rfl (by decide) cl_15 (by decide) qt3392 qt3394 (lw_all_tbl qs206)), ?_⟩
  refine List.forall_mem_cons.mpr ⟨(ek_iv hS gg_378 rfl (by decide) cl_15 (by decide) qt3396 qt3398 (lw_all_tbl qs207)), ?_⟩
  refine List.forall_mem_cons.mpr ⟨(ek_get hS cl_15 (by decide) (by decide) rfl qt2597), ?_⟩
  refine List.forall_mem_cons.mpr ⟨(ek_get hS cl_15 (by decide) (by decide) rfl qt2488), ?_⟩
  refine List.forall_mem_cons.mpr ⟨(ek_get hS cl_15 (by decide) (by decide) rfl qt2596), ?_⟩
  refine List.forall_mem_cons.mpr ⟨(ek_ldl hS qt3400), ?_⟩
  refine List.forall_mem_cons.mpr ⟨(ek_iv hS gg_381 rfl (by decide) cl_15 (by decide) qt3409 qt3411 (lw_all_tbl qs210)), ?_⟩
  refine List.forall_mem_cons.mpr ⟨(ek_iv hS gg_383 rfl (by decide) cl_15 (by decide) qt3418 qt3420 (lw_all_tbl qs211)), ?_⟩
  refine List.forall_mem_cons.mpr ⟨(ek_put hS cl_15 (by decide) (by decide) rfl rfl qt2600), ?_⟩
  refine List.forall_mem_cons.mpr ⟨(ek_ldsw hS (k := 40) rfl (by decide)), ?_⟩
  refine List.forall_mem_cons.mpr ⟨(ek_iv hS gg_384 rfl (by decide) cl_15 (by decide) qt3423 qt3425 (lw_all_tbl qs212)), ?_⟩
  refine List.forall_mem_cons.mpr ⟨(ek_ldsw hS (k := 41) rfl (by decide)), ?_⟩
  refine List.forall_mem_cons.mpr ⟨(ek_put hS cl_15 (by decide) (by decide) rfl rfl qt2601), ?_⟩
  refine List.forall_mem_cons.mpr ⟨(ek_iv hS gg_385 rfl (by decide) cl_15 (by decide) qt3427 qt3429 (lw_all_tbl qs213)), ?_⟩
  refine List.forall_mem_cons.mpr ⟨(ek_get hS cl_15 (by decide) (by decide) rfl qt2601), ?_⟩
  exact fun q h => absurd h List.not_mem_nil
def RT_X15_10 : List (Instr × Nat × Nat × Nat) := [(.getfield 262, 15, 118, 0), (.ldc_w 830, 18, 0, 1), (.ldc_w 832, 19, 0, 1), (.invokevirtual 834, 386, 2, 15), (.ldc_w 837, 17, 0, 1), (.invokevirtual 839, 387, 2, 15), (.getfield 821, 15, 116, 0), (.putfield 852, 15, 121, 0), (.invokevirtual 869, 395, 2, 15), (.putfield 918, 15, 123, 0), (.putfield 903, 15, 124, 0), (.putfield 893, 15, 125, 0), (.putfield 896, 15, 126, 0), (.putfield 890, 15, 128, 0), (.putfield 872, 15, 129, 0), (.putfield 878, 15, 130, 0), (.putfield 906, 15, 164, 0), (.putfield 875, 15, 139, 0), (.getfield 297, 15, 143, 0), (.getfield 294, 15, 142, 0), (.invokevirtual 921, 396, 3, 15), (.invokevirtual 924, 397, 4, 15), (.putfield 855, 15, 132, 0), (.putfield 858, 15, 144, 0), (.putfield 861, 15, 127, 0), (.putfield 864, 15, 131, 0), (.putfield 866, 15, 135, 0), (.getfield 858, 15, 144, 0), (.getfield 872, 15, 129, 0), (.getfield 300, 15, 145, 0), (.getfield 303, 15, 146, 0), (.getfield 306, 15, 147, 0), (.getfield 309, 15, 148, 0), (.getfield 312, 15, 149, 0), (.getfield 315, 15, 150, 0), (.getfield 291, 15, 141, 0), (.getfield 875, 15, 139, 0), (.getfield 279, 15, 136, 0), (.getfield 866, 15, 135, 0), (.getfield 282, 15, 137, 0)]
set_option maxRecDepth 100000 in
set_option maxHeartbeats 4000000 in
theorem rt_X15_10 (hS : pv_ST B sa xv H0 args s) : ∀ q ∈ RT_X15_10, pv_EK (mkE B sa xv D cA H0) (PP L xs) GG "RegionHouseModel" q args s := by
  skip
  refine List.forall_mem_cons.mpr ⟨(ek_get hS cl_15 (by decide) (by decide) rfl qt2602), ?_⟩
  refine List.forall_mem_cons.mpr ⟨(ek_ldsw hS (k := 37) rfl (by decide)), ?_⟩
  refine List.forall_mem_cons.mpr ⟨(ek_ldsw hS (k := 38) rfl (by decide)), ?_⟩
  refine List.forall_mem_cons.mpr ⟨(ek_iv hS gg_386 rfl (by decide) cl_15 (by decide) qt3433 qt3435 (lw_all_tbl qs214)), ?_⟩
  refine List.forall_mem_cons.mpr ⟨(ek_ldsw hS (k := 39) rfl (by decide)), ?_⟩
  refine List.forall_mem_cons.mpr ⟨(ek_iv hS gg_387 rfl (by decide) cl_15 (by decide) qt3438 qt3440 (lw_all_tbl qs215)), ?_⟩
  refine List.forall_mem_cons.mpr ⟨(ek_get hS cl_15 (by decide) (by decide) rfl qt2600), ?_⟩
  refine List.forall_mem_cons.mpr ⟨(ek_put hS cl_15 (by decide) (by decide) rfl rfl qt2605), ?_⟩
  refine List.forall_mem_cons.mpr ⟨(ek_iv hS gg_395 rfl (by decide) cl_15 (by decide) qt3471 qt3473 (lw_all_tbl qs216)), ?_⟩
  refine List.forall_mem_cons.mpr ⟨(ek_put hS cl_15 (by decide) (by decide) rfl rfl qt2607), ?_⟩
  refine List.forall_mem_cons.mpr ⟨(ek_put hS cl_15 (by decide) (by decide) rfl rfl qt2608), ?_⟩
  refine List.forall_mem_cons.mpr ⟨(ek_put hS cl_15 (by decide) (by decide) rfl rfl qt2609), ?_⟩
  refine List.forall_mem_cons.mpr ⟨(ek_put hS cl_15 (by decide) (by decide) rfl rfl qt2610), ?_⟩
  refine List.forall_mem_cons.mpr ⟨(ek_put hS cl_15 (by decide) (by decide) rfl rfl qt2612), ?_⟩
  refine List.forall_mem_cons.mpr ⟨(ek_put hS cl_15 (by decide) (by decide) rfl rfl qt2613), ?_⟩
  refine List.forall_mem_cons.mpr ⟨(ek_put hS cl_15 (by decide) (by decide) rfl rfl qt2614), ?_⟩
  refine List.forall_mem_cons.mpr ⟨(ek_put hS cl_15 (by decide) (by decide) rfl rfl qt2648), ?_⟩
  refine List.forall_mem_cons.mpr ⟨(ek_put hS cl_15 (by decide) (by decide) rfl rfl qt2623), ?_⟩
  refine List.forall_mem_cons.mpr ⟨(ek_get hS cl_15 (by decide) (by decide) rfl qt2627), ?_⟩
  refine List.forall_mem_cons.mpr ⟨(ek_get hS cl_15 (by decide) (by decide) rfl qt2626), ?_⟩
  refine List.forall_mem_cons.mpr ⟨(ek_iv hS gg_396 rfl (by decide) cl_15 (by decide) qt3475 qt3477 (lw_all_tbl qs217)), ?_⟩
  refine List.forall_mem_cons.mpr ⟨(ek_iv hS gg_397 rfl (by decide) cl_15 (by decide) qt3479 qt3481 (lw_all_tbl qs218)), ?_⟩
  refine List.forall_mem_cons.mpr ⟨(ek_put hS cl_15 (by decide) (by decide) rfl rfl qt2616), ?_⟩
  refine List.forall_mem_cons.mpr ⟨(ek_put hS cl_15 (by decide) (by decide) rfl rfl qt2628), ?_⟩
  refine List.forall_mem_cons.mpr ⟨(ek_put hS cl_15 (by decide) (by decide) rfl rfl qt2611), ?_⟩
  refine List.forall_mem_cons.mpr ⟨(ek_put hS cl_15 (by decide) (by decide) rfl rfl qt2615), ?_⟩
  refine List.forall_mem_cons.mpr ⟨(ek_put hS cl_15 (by decide) (by decide) rfl rfl qt2619), ?_⟩
  refine List.forall_mem_cons.mpr ⟨(ek_get hS cl_15 (by decide) (by decide) rfl qt2628), ?_⟩
  refine List.forall_mem_cons.mpr ⟨(ek_get hS cl_15 (by decide) (by decide) rfl qt2613), ?_⟩
  refine List.forall_mem_cons.mpr ⟨(ek_get hS cl_15 (by decide) (by decide) rfl qt2629), ?_⟩
  refine List.forall_mem_cons.mpr ⟨(ek_get hS cl_15 (by decide) (by decide) rfl qt2630), ?_⟩
  refine List.forall_mem_cons.mpr ⟨(ek_get hS cl_15 (by decide) (by decide) rfl qt2631), ?_⟩
  refine List.forall_mem_cons.mpr ⟨(ek_get hS cl_15 (by decide) (by decide) rfl qt2632), ?_⟩
  refine List.forall_mem_cons.mpr ⟨(ek_get hS cl_15 (by decide) (by decide) rfl qt2633), ?_⟩
  refine List.forall_mem_cons.mpr ⟨(ek_get hS cl_15 (by decide) (by decide) rfl qt2634), ?_⟩
  refine List.forall_mem_cons.mpr ⟨(ek_get hS cl_15 (by decide) (by decide) rfl qt2625), ?_⟩
  refine List.forall_mem_cons.mpr ⟨(ek_get hS cl_15 (by decide) (by decide) rfl qt2623), ?_⟩
  refine List.forall_mem_cons.mpr ⟨(ek_get hS cl_15 (by decide) (by decide) rfl qt2620), ?_⟩
  refine List.forall_mem_cons.mpr ⟨(ek_get hS cl_15 (by decide) (by decide) rfl qt2619), ?_⟩
  refine List.forall_mem_cons.mpr ⟨(ek_get hS cl_15 (by decide) (by decide) rfl qt2621), ?_⟩
  exact fun q h => absurd h List.not_mem_nil
def RT_X15_11 : List (Instr × Nat × Nat × Nat) := [(.getfield 285, 15, 138, 0), (.getfield 757, 15, 122, 0), (.getfield 918, 15, 123, 0), (.invokevirtual 927, 399, 4, 15), (.invokevirtual 930, 418, 2, 15), (.invokevirtual 961, 400, 3, 15), (.invokevirtual 964, 410, 2, 15), (.invokevirtual 967, 411, 2, 15), (.getfield 855, 15, 132, 0), (.getfield 275, 15, 134, 0), (.getfield 288, 15, 140, 0), (.invokevirtual 970, 412, 2, 15), (.invokevirtual 973, 414, 2, 15), (.invokevirtual 976, 416, 2, 15), (.getfield 864, 15, 131, 0), (.invokevirtual 979, 417, 3, 15), (.invokevirtual 951, 401, 2, 15), (.invokevirtual 954, 402, 5, 15), (.getfield 272, 15, 133, 0), (.invokevirtual 958, 409, 3, 15), (.getfield 345, 15, 160, 0), (.getfield 269, 15, 120, 0), (.getfield 852, 15, 121, 0), (.getfield 903, 15, 124, 0), (.invokevirtual 909, 403, 1, 15), (.invokevirtual 912, 407, 3, 15), (.getfield 906, 15, 164, 0), (.invokevirtual 915, 408, 1, 15), (.getfield 327, 15, 154, 0), (.getfield 339, 15, 158, 0), (.getfield 333, 15, 156, 0), (.getfield 336, 15, 157, 0), (.getfield 330, 15, 155, 0), (.getfield 342, 15, 159, 0), (.getfield 348, 15, 161, 0), (.getfield 896, 15, 126, 0), (.ldc_w 899, 50000, 0, 0), (.invokevirtual 900, 404, 1, 15), (.getfield 881, 15, 162, 0), (.putfield 881, 15, 162, 0)]
set_option maxRecDepth 100000 in
set_option maxHeartbeats 4000000 in
theorem rt_X15_11 (hS : pv_ST B sa xv H0 args s) : ∀ q ∈ RT_X15_11, pv_EK (mkE B sa xv D cA H0) (PP L xs) GG "RegionHouseModel" q args s := by
  skip
  refine List.forall_mem_cons.mpr ⟨(ek_get hS cl_15 (by decide) (by decide) rfl qt2622), ?_⟩
  refine List.forall_mem_cons.mpr ⟨(ek_get hS cl_15 (by decide) (by decide) rfl qt2606), ?_⟩
  refine List.forall_mem_cons.mpr ⟨(ek_get hS cl_15 (by decide) (by decide) rfl qt2607), ?_⟩
  refine List.forall_mem_cons.mpr ⟨(ek_iv hS gg_399 rfl (by decide) cl_15 (by decide) qt3487 qt3489 (lw_all_tbl qs219)), ?_⟩
  refine List.forall_mem_cons.mpr ⟨(ek_iv hS gg_418 rfl (by decide) cl_15 (by decide) qt3564 qt3566 (lw_all_tbl qs238)), ?_⟩
  refine List.forall_mem_cons.mpr ⟨(ek_iv hS gg_400 rfl (by decide) cl_15 (by decide) qt3491 qt3493 (lw_all_tbl qs220)), ?_⟩
  refine List.forall_mem_cons.mpr ⟨(ek_iv hS gg_410 rfl (by decide) cl_15 (by decide) qt3532 qt3534 (lw_all_tbl qs230)), ?_⟩
  refine List.forall_mem_cons.mpr ⟨(ek_iv hS gg_411 rfl (by decide) cl_15 (by decide) qt3536 qt3538 (lw_all_tbl qs231)), ?_⟩
  refine List.forall_mem_cons.mpr ⟨(ek_get hS cl_15 (by decide) (by decide) rfl qt2616), ?_⟩
  refine List.forall_mem_cons.mpr ⟨(ek_get hS cl_15 (by decide) (by decide) rfl qt2618), ?_⟩
  refine List.forall_mem_cons.mpr ⟨(ek_get hS cl_15 (by decide) (by decide) rfl qt2624), ?_⟩
  refine List.forall_mem_cons.mpr ⟨(ek_iv hS gg_412 rfl (by decide) cl_15 (by decide) qt3540 qt3542 (lw_all_tbl qs232)), ?_⟩
  refine List.forall_mem_cons.mpr ⟨(ek_iv hS gg_414 rfl (by decide) cl_15 (by decide) qt3548 qt3550 (lw_all_tbl qs234)), ?_⟩
  refine List.forall_mem_cons.mpr ⟨(ek_iv hS gg_416 rfl (by decide) cl_15 (by decide) qt3556 qt3558 (lw_all_tbl qs236)), ?_⟩
  refine List.forall_mem_cons.mpr ⟨(ek_get hS cl_15 (by decide) (by decide) rfl qt2615), ?_⟩
  refine List.forall_mem_cons.mpr ⟨(ek_iv hS gg_417 rfl (by decide) cl_15 (by decide) qt3560 qt3562 (lw_all_tbl qs237)), ?_⟩
  refine List.forall_mem_cons.mpr ⟨(ek_iv hS gg_401 rfl (by decide) cl_15 (by decide) qt3495 qt3497 (lw_all_tbl qs221)), ?_⟩
  refine List.forall_mem_cons.mpr ⟨(ek_iv hS gg_402 rfl (by decide) cl_15 (by decide) qt3499 qt3501 (lw_all_tbl qs222)), ?_⟩
  refine List.forall_mem_cons.mpr ⟨(ek_get hS cl_15 (by decide) (by decide) rfl qt2617), ?_⟩
  refine List.forall_mem_cons.mpr ⟨(ek_iv hS gg_409 rfl (by decide) cl_15 (by decide) qt3528 qt3530 (lw_all_tbl qs229)), ?_⟩
  refine List.forall_mem_cons.mpr ⟨(ek_get hS cl_15 (by decide) (by decide) rfl qt2644), ?_⟩
  refine List.forall_mem_cons.mpr ⟨(ek_get hS cl_15 (by decide) (by decide) rfl qt2604), ?_⟩
  refine List.forall_mem_cons.mpr ⟨(ek_get hS cl_15 (by decide) (by decide) rfl qt2605), ?_⟩
  refine List.forall_mem_cons.mpr ⟨(ek_get hS cl_15 (by decide) (by decide) rfl qt2608), ?_⟩
  refine List.forall_mem_cons.mpr ⟨(ek_iv hS gg_403 rfl (by decide) cl_15 (by decide) qt3503 qt3505 (lw_all_tbl qs223)), ?_⟩
  refine List.forall_mem_cons.mpr ⟨(ek_iv hS gg_407 rfl (by decide) cl_15 (by decide) qt3520 qt3522 (lw_all_tbl qs227)), ?_⟩
  refine List.forall_mem_cons.mpr ⟨(ek_get hS cl_15 (by decide) (by decide) rfl qt2648), ?_⟩
  refine List.forall_mem_cons.mpr ⟨(ek_iv hS gg_408 rfl (by decide) cl_15 (by decide) qt3524 qt3526 (lw_all_tbl qs228)), ?_⟩
  refine List.forall_mem_cons.mpr ⟨(ek_get hS cl_15 (by decide) (by decide) rfl qt2638), ?_⟩
  refine List.forall_mem_cons.mpr ⟨(ek_get hS cl_15 (by decide) (by decide) rfl qt2642), ?_⟩
  refine List.forall_mem_cons.mpr ⟨(ek_get hS cl_15 (by decide) (by decide) rfl qt2640), ?_⟩
  refine List.forall_mem_cons.mpr ⟨(ek_get hS cl_15 (by decide) (by decide) rfl qt2641), ?_⟩
  refine List.forall_mem_cons.mpr ⟨(ek_get hS cl_15 (by decide) (by decide) rfl qt2639), ?_⟩
  refine List.forall_mem_cons.mpr ⟨(ek_get hS cl_15 (by decide) (by decide) rfl qt2643), ?_⟩
  refine List.forall_mem_cons.mpr ⟨(ek_get hS cl_15 (by decide) (by decide) rfl qt2645), ?_⟩
  refine List.forall_mem_cons.mpr ⟨(ek_get hS cl_15 (by decide) (by decide) rfl qt2610), ?_⟩
  refine List.forall_mem_cons.mpr ⟨(ek_ldcw hS qt3507), ?_⟩
  refine List.forall_mem_cons.mpr ⟨(ek_iv hS gg_404 rfl (by decide) cl_15 (by decide) qt3508 qt3510 (lw_all_tbl qs224)), ?_⟩
  refine List.forall_mem_cons.mpr ⟨(ek_get hS cl_15 (by decide) (by decide) rfl qt2646), ?_⟩
  refine List.forall_mem_cons.mpr ⟨(ek_put hS cl_15 (by decide) (by decide) rfl rfl qt2646), ?_⟩
  exact fun q h => absurd h List.not_mem_nil
def RT_X15_12 : List (Instr × Nat × Nat × Nat) := [(.getfield 318, 15, 151, 0), (.getfield 321, 15, 152, 0), (.getfield 324, 15, 153, 0), (.invokevirtual 884, 405, 4, 15), (.getfield 351, 15, 163, 0), (.invokevirtual 887, 406, 2, 15), (.getfield 861, 15, 127, 0), (.getfield 265, 15, 119, 0), (.getfield 890, 15, 128, 0), (.getfield 355, 15, 165, 0), (.getfield 358, 15, 166, 0), (.getfield 893, 15, 125, 0), (.getfield 878, 15, 130, 0), (.invokevirtual 933, 413, 3, 15), (.invokevirtual 982, 415, 2, 15), (.invokevirtual 936, 419, 2, 15), (.invokevirtual 939, 421, 2, 15), (.invokevirtual 948, 420, 2, 15), (.getfield 942, 15, 167, 0), (.getfield 945, 15, 168, 0), (.putfield 942, 15, 167, 0), (.putfield 945, 15, 168, 0), (.invokevirtual 985, 428, 3, 15), (.getfield 361, 15, 169, 0), (.getfield 364, 15, 170, 0), (.ldc_w 988, 22, 0, 1), (.invokevirtual 990, 429, 2, 15), (.invokevirtual 993, 430, 3, 15)]
set_option maxRecDepth 100000 in
set_option maxHeartbeats 4000000 in
theorem rt_X15_12 (hS : pv_ST B sa xv H0 args s) : ∀ q ∈ RT_X15_12, pv_EK (mkE B sa xv D cA H0) (PP L xs) GG "RegionHouseModel" q args s := by
  skip
  refine List.forall_mem_cons.mpr ⟨(ek_get hS cl_15 (by decide) (by decide) rfl qt2635), ?_⟩
  refine List.forall_mem_cons.mpr ⟨(ek_get hS cl_15 (by decide) (by decide) rfl qt2636), ?_⟩
  refine List.forall_mem_cons.mpr ⟨(ek_get hS cl_15 (by decide) (by decide) rfl qt2637), ?_⟩
  refine List.forall_mem_cons.mpr ⟨(ek_iv hS gg_405 rfl (by decide) cl_15 (by decide) qt3512 qt3514 (lw_all_tbl qs225)), ?_⟩
  refine List.forall_mem_cons.mpr ⟨(ek_get hS cl_15 (by decide) (by decide) rfl qt2647), ?_⟩
  refine List.forall_mem_cons.mpr ⟨(ek_iv hS gg_406 rfl (by decide) cl_15 (by decide) qt3516 qt3518 (lw_all_tbl qs226)), ?_⟩
  refine List.forall_mem_cons.mpr ⟨(ek_get hS cl_15 (by decide) (by decide) rfl qt2611), ?_⟩
  refine List.forall_mem_cons.mpr ⟨(ek_get hS cl_15 (by decide) (by decide) rfl qt2603), ?_⟩
  refine List.forall_mem_cons.mpr ⟨(ek_get hS cl_15 (by decide) (by decide) rfl qt2612), ?_⟩
  refine List.forall_mem_cons.mpr ⟨(ek_get hS cl_15 (by decide) (by decide) rfl qt2649), ?_⟩
  refine List.forall_mem_cons.mpr ⟨(ek_get hS cl_15 (by decide) (by decide) rfl qt2650), ?_⟩
  refine List.forall_mem_cons.mpr ⟨(ek_get hS cl_15 (by decide) (by decide) rfl qt2609), ?_⟩
  refine List.forall_mem_cons.mpr ⟨(ek_get hS cl_15 (by decide) (by decide) rfl qt2614), ?_⟩
  refine List.forall_mem_cons.mpr ⟨(ek_iv hS gg_413 rfl (by decide) cl_15 (by decide) qt3544 qt3546 (lw_all_tbl qs233)), ?_⟩
  refine List.forall_mem_cons.mpr ⟨(ek_iv hS gg_415 rfl (by decide) cl_15 (by decide) qt3552 qt3554 (lw_all_tbl qs235)), ?_⟩
  refine List.forall_mem_cons.mpr ⟨(ek_iv hS gg_419 rfl (by decide) cl_15 (by decide) qt3568 qt3570 (lw_all_tbl qs239)), ?_⟩
  refine List.forall_mem_cons.mpr ⟨(ek_iv hS gg_421 rfl (by decide) cl_15 (by decide) qt3576 qt3578 (lw_all_tbl qs241)), ?_⟩
  refine List.forall_mem_cons.mpr ⟨(ek_iv hS gg_420 rfl (by decide) cl_15 (by decide) qt3572 qt3574 (lw_all_tbl qs240)), ?_⟩
  refine List.forall_mem_cons.mpr ⟨(ek_get hS cl_15 (by decide) (by decide) rfl qt2651), ?_⟩
  refine List.forall_mem_cons.mpr ⟨(ek_get hS cl_15 (by decide) (by decide) rfl qt2652), ?_⟩
  refine List.forall_mem_cons.mpr ⟨(ek_put hS cl_15 (by decide) (by decide) rfl rfl qt2651), ?_⟩
  refine List.forall_mem_cons.mpr ⟨(ek_put hS cl_15 (by decide) (by decide) rfl rfl qt2652), ?_⟩
  refine List.forall_mem_cons.mpr ⟨(ek_iv hS gg_428 rfl (by decide) cl_15 (by decide) qt3604 qt3606 (lw_all_tbl qs242)), ?_⟩
  refine List.forall_mem_cons.mpr ⟨(ek_get hS cl_15 (by decide) (by decide) rfl qt2653), ?_⟩
  refine List.forall_mem_cons.mpr ⟨(ek_get hS cl_15 (by decide) (by decide) rfl qt2654), ?_⟩
  refine List.forall_mem_cons.mpr ⟨(ek_ldsw hS (k := 42) rfl (by decide)), ?_⟩
  refine List.forall_mem_cons.mpr ⟨(ek_iv hS gg_429 rfl (by decide) cl_15 (by decide) qt3609 qt3611 (lw_all_tbl qs243)), ?_⟩
  refine List.forall_mem_cons.mpr ⟨(ek_iv hS gg_430 rfl (by decide) cl_15 (by decide) qt3613 qt3615 (lw_all_tbl qs244)), ?_⟩
  exact fun q h => absurd h List.not_mem_nil
def RT_X15 : List (Instr × Nat × Nat × Nat) := RT_X15_0 ++ (RT_X15_1 ++ (RT_X15_2 ++ (RT_X15_3 ++ (RT_X15_4 ++ (RT_X15_5 ++ (RT_X15_6 ++ (RT_X15_7 ++ (RT_X15_8 ++ (RT_X15_9 ++ (RT_X15_10 ++ (RT_X15_11 ++ (RT_X15_12))))))))))))
theorem rt_X15 (hS : pv_ST B sa xv H0 args s) : ∀ q ∈ RT_X15, pv_EK (mkE B sa xv D cA H0) (PP L xs) GG "RegionHouseModel" q args s := List.forall_mem_append.mpr ⟨rt_X15_0 hS, List.forall_mem_append.mpr ⟨rt_X15_1 hS, List.forall_mem_append.mpr ⟨rt_X15_2 hS, List.forall_mem_append.mpr ⟨rt_X15_3 hS, List.forall_mem_append.mpr ⟨rt_X15_4 hS, List.forall_mem_append.mpr ⟨rt_X15_5 hS, List.forall_mem_append.mpr ⟨rt_X15_6 hS, List.forall_mem_append.mpr ⟨rt_X15_7 hS, List.forall_mem_append.mpr ⟨rt_X15_8 hS, List.forall_mem_append.mpr ⟨rt_X15_9 hS, List.forall_mem_append.mpr ⟨rt_X15_10 hS, List.forall_mem_append.mpr ⟨rt_X15_11 hS, rt_X15_12 hS⟩⟩⟩⟩⟩⟩⟩⟩⟩⟩⟩⟩
end RTT
