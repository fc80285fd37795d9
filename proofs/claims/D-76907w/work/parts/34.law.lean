/-! THE LAW: its walk -/
/-- seven ints of the script, from x3 on -/
def Sc (ev : Ev) (b : Nat) (x3 : Int32) (a : Nat → Int32) : Prop := b < ev.1 ∧ ∀ σ : Mm, σ.1 b = ev.2.2.2.2 b → aldI 0 σ b x3 = some (a 0) ∧ aldI 0 σ b (x3 + (1 : Int32)) = some (a 1) ∧ aldI 0 σ b (x3 + (2 : Int32)) = some (a 2) ∧ aldI 0 σ b (x3 + (3 : Int32)) = some (a 3) ∧ aldI 0 σ b (x3 + (4 : Int32)) = some (a 4) ∧ aldI 0 σ b (x3 + (5 : Int32)) = some (a 5) ∧ aldI 0 σ b (x3 + (6 : Int32)) = some (a 6)
theorem cv__law_13 : CV R_law 13 0 yX0_cell cX0_cell 7 (some .int) 6 := ⟨_, rfl, lw_V q360 q361 q362 q103 q363, rfl, by decide, by decide, by decide +kernel⟩
theorem cv__law_17 : CV R_law 17 2 yX2_cell cX2_cell 7 (some .int) 6 := ⟨_, rfl, lw_V q2722 q2723 q2724 q111 q2725, rfl, by decide, by decide, by decide +kernel⟩
theorem cv__law_18 : CV R_law 18 0 yX0_drop cX0_drop 1 (some .int) 0 := ⟨_, rfl, lw_V q2352 q2353 q2354 q103 q2355, rfl, by decide, by decide, by decide +kernel⟩
theorem cv__law_22 : CV R_law 22 2 yX2_drop cX2_drop 1 (some .int) 0 := ⟨_, rfl, lw_V q2757 q2758 q2759 q111 q2760, rfl, by decide, by decide, by decide +kernel⟩
theorem cv__law_23 : CV R_law 23 0 yX0_add cX0_add 7 (some .int) 4 := ⟨_, rfl, lw_V q426 q427 q428 q103 q429, rfl, by decide, by decide, by decide +kernel⟩
theorem cv__law_27 : CV R_law 27 2 yX2_add cX2_add 5 (some .int) 4 := ⟨_, rfl, lw_V q2769 q2770 q2771 q111 q2772, rfl, by decide, by decide, by decide +kernel⟩
theorem cv__law_28 : CV R_law 28 0 yX0_swap cX0_swap 4 (some .int) 3 := ⟨_, rfl, lw_V q447 q448 q449 q103 q450, rfl, by decide, by decide, by decide +kernel⟩
theorem cv__law_32 : CV R_law 32 2 yX2_swap cX2_swap 4 (some .int) 3 := ⟨_, rfl, lw_V q2795 q2796 q2797 q111 q2798, rfl, by decide, by decide, by decide +kernel⟩
theorem cv__law_33 : CV R_law 33 0 yX0_number cX0_number 4 (some .long) 2 := ⟨_, rfl, lw_V q398 q399 q400 q103 q401, rfl, by decide, by decide, by decide +kernel⟩
theorem cv__law_37 : CV R_law 37 2 yX2_number cX2_number 3 (some .long) 2 := ⟨_, rfl, lw_V q2807 q2808 q2809 q111 q2810, rfl, by decide, by decide, by decide +kernel⟩
theorem cv__law_38 : CV R_law 38 0 yX0_change cX0_change 4 (some .long) 3 := ⟨_, rfl, lw_V q414 q415 q416 q103 q417, rfl, by decide, by decide, by decide +kernel⟩
theorem cv__law_42 : CV R_law 42 2 yX2_change cX2_change 4 (some .long) 3 := ⟨_, rfl, lw_V q2813 q2814 q2815 q111 q2816, rfl, by decide, by decide, by decide +kernel⟩
theorem cv__law_43 : CV R_law 43 0 yX0_fails cX0_fails 4 (some .int) 1 := ⟨_, rfl, lw_V q459 q460 q461 q103 q462, rfl, by decide, by decide, by decide +kernel⟩
theorem cv__law_47 : CV R_law 47 2 yX2_fails cX2_fails 4 (some .int) 1 := ⟨_, rfl, lw_V q2817 q2818 q2819 q111 q2820, rfl, by decide, by decide, by decide +kernel⟩
theorem cv__law_48 : CV R_law 48 0 yX0_step cX0_step 3 (some .int) 1 := ⟨_, rfl, lw_V q489 q490 q491 q103 q492, rfl, by decide, by decide, by decide +kernel⟩
theorem cv__law_51 : CV R_law 51 2 yX2_step cX2_step 3 (some .int) 1 := ⟨_, rfl, lw_V q2842 q2843 q2844 q111 q2845, rfl, by decide, by decide, by decide +kernel⟩
theorem cv__law_52 : CV R_law 52 0 yX0_reduce cX0_reduce 4 (some .int) 1 := ⟨_, rfl, lw_V q582 q583 q584 q103 q585, rfl, by decide, by decide, by decide +kernel⟩
theorem cv__law_55 : CV R_law 55 2 yX2_reduce cX2_reduce 4 (some .int) 1 := ⟨_, rfl, lw_V q2867 q2868 q2869 q111 q2870, rfl, by decide, by decide, by decide +kernel⟩
theorem cv__law_56 : CV R_law 56 0 yX0_normal cX0_normal 4 (some .long) 2 := ⟨_, rfl, lw_V q586 q587 q588 q103 q589, rfl, by decide, by decide, by decide +kernel⟩
theorem cv__law_59 : CV R_law 59 2 yX2_normal cX2_normal 4 (some .long) 2 := ⟨_, rfl, lw_V q2871 q2872 q2873 q111 q2874, rfl, by decide, by decide, by decide +kernel⟩
theorem cv__law_60 : CV R_law 60 0 yX0_log cX0_log 2 (some .int) 1 := ⟨_, rfl, lw_V q597 q598 q599 q103 q600, rfl, by decide, by decide, by decide +kernel⟩
theorem cv__law_63 : CV R_law 63 2 yX2_log cX2_log 2 (some .int) 1 := ⟨_, rfl, lw_V q2883 q2884 q2885 q111 q2886, rfl, by decide, by decide, by decide +kernel⟩
theorem cv__law_64 : CV R_law 64 0 yX0_forget cX0_forget 2 (some .int) 1 := ⟨_, rfl, lw_V q622 q623 q624 q103 q625, rfl, by decide, by decide, by decide +kernel⟩
theorem cv__law_67 : CV R_law 67 2 yX2_forget cX2_forget 2 (some .int) 1 := ⟨_, rfl, lw_V q2887 q2888 q2889 q111 q2890, rfl, by decide, by decide, by decide +kernel⟩
theorem cv__law_68 : CV R_law 68 0 yX0_same cX0_same 3 (some .int) 2 := ⟨_, rfl, lw_V q1341 q1342 q1343 q103 q1344, rfl, by decide, by decide, by decide +kernel⟩
theorem cv__law_72 : CV R_law 72 2 yX2_same cX2_same 3 (some .int) 2 := ⟨_, rfl, lw_V q2892 q2893 q2894 q111 q2895, rfl, by decide, by decide, by decide +kernel⟩
theorem cv__law_73 : CV R_law 73 0 yX0_bridge cX0_bridge 8 (some .long) 4 := ⟨_, rfl, lw_V q1354 q1355 q1356 q103 q1357, rfl, by decide, by decide, by decide +kernel⟩
theorem cv__law_77 : CV R_law 77 2 yX2_bridge cX2_bridge 8 (some .long) 4 := ⟨_, rfl, lw_V q2904 q2905 q2906 q111 q2907, rfl, by decide, by decide, by decide +kernel⟩
theorem cv__law_78 : CV R_law 78 0 yX0_turns cX0_turns 3 (some .int) 2 := ⟨_, rfl, lw_V q1361 q1362 q1363 q103 q1364, rfl, by decide, by decide, by decide +kernel⟩
theorem cv__law_81 : CV R_law 81 2 yX2_turns cX2_turns 3 (some .int) 2 := ⟨_, rfl, lw_V q2912 q2913 q2914 q111 q2915, rfl, by decide, by decide, by decide +kernel⟩
theorem cv__law_82 : CV R_law 82 0 yX0_system cX0_system 3 (some .int) 1 := ⟨_, rfl, lw_V q1382 q1383 q1384 q103 q1385, rfl, by decide, by decide, by decide +kernel⟩
theorem cv__law_85 : CV R_law 85 2 yX2_system cX2_system 2 (some .int) 1 := ⟨_, rfl, lw_V q2927 q2928 q2929 q111 q2930, rfl, by decide, by decide, by decide +kernel⟩
theorem cv__law_86 : CV R_law 86 0 yX0_shell cX0_shell 6 (some .int) 3 := ⟨_, rfl, lw_V q1528 q1529 q1530 q103 q1531, rfl, by decide, by decide, by decide +kernel⟩
theorem cv__law_89 : CV R_law 89 2 yX2_shell cX2_shell 7 (some .int) 3 := ⟨_, rfl, lw_V q2931 q2932 q2933 q111 q2934, rfl, by decide, by decide, by decide +kernel⟩
theorem cv__law_90 : CV R_law 90 0 yX0_squares cX0_squares 5 (some .long) 1 := ⟨_, rfl, lw_V q1542 q1543 q1544 q103 q1545, rfl, by decide, by decide, by decide +kernel⟩
theorem cv__law_94 : CV R_law 94 2 yX2_squares cX2_squares 7 (some .long) 1 := ⟨_, rfl, lw_V q2943 q2944 q2945 q111 q2946, rfl, by decide, by decide, by decide +kernel⟩
theorem cv__law_95 : CV R_law 95 0 yX0_within cX0_within 4 (some .long) 3 := ⟨_, rfl, lw_V q1590 q1591 q1592 q103 q1593, rfl, by decide, by decide, by decide +kernel⟩
theorem cv__law_98 : CV R_law 98 2 yX2_within cX2_within 5 (some .long) 3 := ⟨_, rfl, lw_V q2948 q2949 q2950 q111 q2951, rfl, by decide, by decide, by decide +kernel⟩
theorem cv__law_99 : CV R_law 99 0 yX0_holds cX0_holds 6 (some .int) 3 := ⟨_, rfl, lw_V q1610 q1611 q1612 q103 q1613, rfl, by decide, by decide, by decide +kernel⟩
theorem cv__law_102 : CV R_law 102 2 yX2_holds cX2_holds 9 (some .int) 3 := ⟨_, rfl, lw_V q2969 q2970 q2971 q111 q2972, rfl, by decide, by decide, by decide +kernel⟩
theorem cv__law_103 : CV R_law 103 0 yX0_blunt cX0_blunt 11 (some .long) 2 := ⟨_, rfl, lw_V q1614 q1615 q1616 q103 q1617, rfl, by decide, by decide, by decide +kernel⟩
theorem cv__law_106 : CV R_law 106 2 yX2_blunt cX2_blunt 8 (some .long) 2 := ⟨_, rfl, lw_V q2973 q2974 q2975 q111 q2976, rfl, by decide, by decide, by decide +kernel⟩
theorem cv__law_107 : CV R_law 107 0 yX0_waits cX0_waits 2 (some .int) 1 := ⟨_, rfl, lw_V q2261 q2262 q2263 q103 q2264, rfl, by decide, by decide, by decide +kernel⟩
theorem cv__law_110 : CV R_law 110 2 yX2_waits cX2_waits 3 (some .int) 1 := ⟨_, rfl, lw_V q2995 q2996 q2997 q111 q2998, rfl, by decide, by decide, by decide +kernel⟩
theorem cv__law_111 : CV R_law 111 0 yX0_leaves cX0_leaves 3 (some .int) 1 := ⟨_, rfl, lw_V q2291 q2292 q2293 q103 q2294, rfl, by decide, by decide, by decide +kernel⟩
theorem cv__law_114 : CV R_law 114 2 yX2_leaves cX2_leaves 3 (some .int) 1 := ⟨_, rfl, lw_V q2999 q3000 q3001 q111 q3002, rfl, by decide, by decide, by decide +kernel⟩
theorem cv__law_115 : CV R_law 115 0 yX0_works cX0_works 6 (some .int) 1 := ⟨_, rfl, lw_V q2323 q2324 q2325 q103 q2326, rfl, by decide, by decide, by decide +kernel⟩
theorem cv__law_118 : CV R_law 118 2 yX2_works cX2_works 6 (some .int) 1 := ⟨_, rfl, lw_V q3003 q3004 q3005 q111 q3006, rfl, by decide, by decide, by decide +kernel⟩
theorem cv__law_119 : CV R_law 119 0 yX0_line cX0_line 5 (some .int) 1 := ⟨_, rfl, lw_V q2343 q2344 q2345 q103 q2346, rfl, by decide, by decide, by decide +kernel⟩
theorem cv__law_122 : CV R_law 122 2 yX2_line cX2_line 2 (some .int) 1 := ⟨_, rfl, lw_V q3008 q3009 q3010 q111 q3011, rfl, by decide, by decide, by decide +kernel⟩
theorem cv__law_123 : CV R_law 123 0 yX0_clears cX0_clears 3 (some .int) 0 := ⟨_, rfl, lw_V q2347 q2348 q2349 q103 q2350, rfl, by decide, by decide, by decide +kernel⟩
theorem cv__law_126 : CV R_law 126 2 yX2_clears cX2_clears 3 (some .int) 0 := ⟨_, rfl, lw_V q3012 q3013 q3014 q111 q3015, rfl, by decide, by decide, by decide +kernel⟩
theorem cv__law_127 : CV R_law 127 0 yX0_feed cX0_feed 2 (some .int) 1 := ⟨_, rfl, lw_V q2356 q2357 q2358 q103 q2359, rfl, by decide, by decide, by decide +kernel⟩
theorem cv__law_130 : CV R_law 130 2 yX2_feed cX2_feed 2 (some .int) 1 := ⟨_, rfl, lw_V q3016 q3017 q3018 q111 q3019, rfl, by decide, by decide, by decide +kernel⟩
theorem cvw_law_131 : CVW R_law 131 0 yX0_reads cX0_reads 4 (some .int) [(0, 103, 110, 396), (0, 103, 123, 0), (110, 116, 123, 0)] 0 := ⟨_, rfl, lw_VW q2361 q2362 q2363 q103 q2364, rfl, by decide, by decide, by decide +kernel⟩
theorem cv__law_134 : CV R_law 134 2 yX2_reads cX2_reads 3 (some .int) 0 := ⟨_, rfl, lw_V q3021 q3022 q3023 q111 q3024, rfl, by decide, by decide, by decide +kernel⟩
theorem cv__law_135 : CV R_law 135 0 yX0_prints cX0_prints 3 (some .int) 2 := ⟨_, rfl, lw_V q2457 q2458 q2459 q103 q2460, rfl, by decide, by decide, by decide +kernel⟩
theorem cv__law_138 : CV R_law 138 2 yX2_prints cX2_prints 4 (some .int) 2 := ⟨_, rfl, lw_V q3051 q3052 q3053 q111 q3054, rfl, by decide, by decide, by decide +kernel⟩
theorem cv__law_139 : CV R_law 139 0 yX0_paper cX0_paper 2 (some .int) 1 := ⟨_, rfl, lw_V q2532 q2533 q2534 q103 q2535, rfl, by decide, by decide, by decide +kernel⟩
theorem cv__law_142 : CV R_law 142 2 yX2_paper cX2_paper 2 (some .int) 1 := ⟨_, rfl, lw_V q3063 q3064 q3065 q111 q3066, rfl, by decide, by decide, by decide +kernel⟩
theorem cvw_law_143 : CVW R_law 143 0 yX0_list cX0_list 4 (some .int) [(15, 24, 27, 448)] 2 := ⟨_, rfl, lw_VW q2551 q2552 q2553 q103 q2554, rfl, by decide, by decide, by decide +kernel⟩
theorem cv__law_146 : CV R_law 146 2 yX2_list cX2_list 4 (some .int) 2 := ⟨_, rfl, lw_V q3067 q3068 q3069 q111 q3070, rfl, by decide, by decide, by decide +kernel⟩
theorem cvw_law_149 : CVW R_law 149 0 yX0_set cX0_set 6 (some .int) [(9, 18, 21, 450), (9, 18, 26, 452)] 3 := ⟨_, rfl, lw_VW q2563 q2564 q2565 q103 q2566, rfl, by decide, by decide, by decide +kernel⟩
theorem cv__law_153 : CV R_law 153 2 yX2_set cX2_set 5 (some .int) 3 := ⟨_, rfl, lw_V q3075 q3076 q3077 q111 q3078, rfl, by decide, by decide, by decide +kernel⟩
theorem cvw_law_154 : CVW R_law 154 0 yX0_get cX0_get 4 (some .long) [(11, 19, 20, 450), (11, 19, 20, 452)] 2 := ⟨_, rfl, lw_VW q2572 q2573 q2574 q103 q2575, rfl, by decide, by decide, by decide +kernel⟩
theorem cv__law_157 : CV R_law 157 2 yX2_get cX2_get 3 (some .long) 2 := ⟨_, rfl, lw_V q3079 q3080 q3081 q111 q3082, rfl, by decide, by decide, by decide +kernel⟩
theorem cv__law_158 : CV R_law 158 0 yX0_into cX0_into 7 (some .int) 4 := ⟨_, rfl, lw_V q2576 q2577 q2578 q103 q2579, rfl, by decide, by decide, by decide +kernel⟩
theorem cv__law_161 : CV R_law 161 2 yX2_into cX2_into 6 (some .int) 4 := ⟨_, rfl, lw_V q3083 q3084 q3085 q111 q3086, rfl, by decide, by decide, by decide +kernel⟩
theorem cv__law_162 : CV R_law 162 0 yX0_from cX0_from 4 (some .int) 2 := ⟨_, rfl, lw_V q2584 q2585 q2586 q103 q2587, rfl, by decide, by decide, by decide +kernel⟩
theorem cv__law_165 : CV R_law 165 2 yX2_from cX2_from 4 (some .int) 2 := ⟨_, rfl, lw_V q3087 q3088 q3089 q111 q3090, rfl, by decide, by decide, by decide +kernel⟩
theorem cv__law_166 : CV R_law 166 0 yX0_undo cX0_undo 1 (some .int) 0 := ⟨_, rfl, lw_V q422 q423 q424 q103 q425, rfl, by decide, by decide, by decide +kernel⟩
theorem cv__law_169 : CV R_law 169 2 yX2_undo cX2_undo 2 (some .int) 0 := ⟨_, rfl, lw_V q2714 q2715 q2716 q111 q2717, rfl, by decide, by decide, by decide +kernel⟩
theorem cv__law_170 : CV R_law 170 0 yX0_image cX0_image 3 (some .int) 0 := ⟨_, rfl, lw_V q2588 q2589 q2590 q103 q2591, rfl, by decide, by decide, by decide +kernel⟩
theorem cv__law_173 : CV R_law 173 2 yX2_image cX2_image 2 (some .int) 0 := ⟨_, rfl, lw_V q3091 q3092 q3093 q111 q3094, rfl, by decide, by decide, by decide +kernel⟩
theorem cv__law_174 : CV R_law 174 0 yX0_back cX0_back 3 (some .int) 0 := ⟨_, rfl, lw_V q2603 q2604 q2605 q103 q2606, rfl, by decide, by decide, by decide +kernel⟩
theorem cv__law_177 : CV R_law 177 2 yX2_back_2 cX2_back_2 2 (some .int) 0 := ⟨_, rfl, lw_V q3095 q3096 q3097 q111 q3098, rfl, by decide, by decide, by decide +kernel⟩
theorem cv__law_178 : CV R_law 178 0 yX0_count cX0_count 2 (some .int) 1 := ⟨_, rfl, lw_V q2607 q2608 q2609 q103 q2610, rfl, by decide, by decide, by decide +kernel⟩
theorem cv__law_181 : CV R_law 181 2 yX2_count cX2_count 2 (some .int) 1 := ⟨_, rfl, lw_V q3099 q3100 q3101 q111 q3102, rfl, by decide, by decide, by decide +kernel⟩
theorem nl__law_7 : NL R_law 7 0 25 [.null, .int 0, .null, .null, .null, .int 0, .null, .null, .int 0, .null, .null, .null, .null, .null, .int 0, .null, .null, .null, .int 0, .null, .null, .null, .null, .null, .int 0] := ⟨_, _, tyX0, rfl, in_X0, tyX0_ok, q161, q162, q103, by decide⟩
theorem nl__law_10 : NL R_law 10 2 32 [.null, .null, .int 0, .int 0, .int 0, .int 0, .int 0, .int 0, .int 0, .int 0, .int 0, .int 0, .null, .null, .null, .null, .null, .null, .null, .null, .null, .null, .null, .null, .null, .int 0, .int 0, .int 0, .int 0, .null, .null, .int 0] := ⟨_, _, tyX2, rfl, in_X2, tyX2_ok, q2611, q2612, q111, by decide⟩
theorem ci__law_9 : CI R_law 9 yX0_init cX0_init 2 0 := ⟨q165, q103, q163, q164, rfl, by decide, by decide, by decide +kernel⟩
theorem ci__law_12 : CI R_law 12 yX2_init cX2_init 2 0 := ⟨q2615, q111, q2613, q2614, rfl, by decide, by decide, by decide +kernel⟩
def lc_cell (fu : Nat) (ev : Ev) (σ : Mm) (x1 x2 : Nat) (a : Nat → Int32) (K : Mm → Prop) : Prop := ∃ (r : Int32) (σ1 σ2 : Mm), isC σ x1 0 = some () ∧ f_X0_cell fu ev σ x1 (a 1) (a 2) (a 3) (a 4) (a 5) (a 6) = some (r, σ1) ∧ isC σ1 x2 2 = some () ∧ f_X2_cell fu ev σ1 x2 (a 1) (a 2) (a 3) (a 4) (a 5) (a 6) = some (r, σ2) ∧ K σ2
def lc_drop (fu : Nat) (ev : Ev) (σ : Mm) (x1 x2 : Nat) (a : Nat → Int32) (K : Mm → Prop) : Prop := ∃ (r : Int32) (σ1 σ2 : Mm), isC σ x1 0 = some () ∧ f_X0_drop fu ev σ x1  = some (r, σ1) ∧ isC σ1 x2 2 = some () ∧ f_X2_drop fu ev σ1 x2  = some (r, σ2) ∧ K σ2
def lc_add (fu : Nat) (ev : Ev) (σ : Mm) (x1 x2 : Nat) (a : Nat → Int32) (K : Mm → Prop) : Prop := ∃ (r : Int32) (σ1 σ2 : Mm), isC σ x1 0 = some () ∧ f_X0_add fu ev σ x1 (a 1) (a 2) (a 3) (a 4) = some (r, σ1) ∧ isC σ1 x2 2 = some () ∧ f_X2_add fu ev σ1 x2 (a 1) (a 2) (a 3) (a 4) = some (r, σ2) ∧ K σ2
def lc_swap (fu : Nat) (ev : Ev) (σ : Mm) (x1 x2 : Nat) (a : Nat → Int32) (K : Mm → Prop) : Prop := ∃ (r : Int32) (σ1 σ2 : Mm), isC σ x1 0 = some () ∧ f_X0_swap fu ev σ x1 (a 1) (a 2) (a 3) = some (r, σ1) ∧ isC σ1 x2 2 = some () ∧ f_X2_swap fu ev σ1 x2 (a 1) (a 2) (a 3) = some (r, σ2) ∧ K σ2
def lc_number (fu : Nat) (ev : Ev) (σ : Mm) (x1 x2 : Nat) (a : Nat → Int32) (K : Mm → Prop) : Prop := ∃ (r : Int64) (σ1 σ2 : Mm), isC σ x1 0 = some () ∧ f_X0_number fu ev σ x1 (a 1) (a 2) = some (r, σ1) ∧ isC σ1 x2 2 = some () ∧ f_X2_number fu ev σ1 x2 (a 1) (a 2) = some (r, σ2) ∧ K σ2
def lc_change (fu : Nat) (ev : Ev) (σ : Mm) (x1 x2 : Nat) (a : Nat → Int32) (K : Mm → Prop) : Prop := ∃ (r : Int64) (σ1 σ2 : Mm), isC σ x1 0 = some () ∧ f_X0_change fu ev σ x1 (a 1) (a 2) (a 3) = some (r, σ1) ∧ isC σ1 x2 2 = some () ∧ f_X2_change fu ev σ1 x2 (a 1) (a 2) (a 3) = some (r, σ2) ∧ K σ2
def lc_fails (fu : Nat) (ev : Ev) (σ : Mm) (x1 x2 : Nat) (a : Nat → Int32) (K : Mm → Prop) : Prop := ∃ (r : Int32) (σ1 σ2 : Mm), isC σ x1 0 = some () ∧ f_X0_fails fu ev σ x1 (a 1) = some (r, σ1) ∧ isC σ1 x2 2 = some () ∧ f_X2_fails fu ev σ1 x2 (a 1) = some (r, σ2) ∧ K σ2
def lc_step (fu : Nat) (ev : Ev) (σ : Mm) (x1 x2 : Nat) (a : Nat → Int32) (K : Mm → Prop) : Prop := ∃ (r : Int32) (σ1 σ2 : Mm), isC σ x1 0 = some () ∧ f_X0_step fu ev σ x1 (a 1) = some (r, σ1) ∧ isC σ1 x2 2 = some () ∧ f_X2_step fu ev σ1 x2 (a 1) = some (r, σ2) ∧ K σ2
def lc_reduce (fu : Nat) (ev : Ev) (σ : Mm) (x1 x2 : Nat) (a : Nat → Int32) (K : Mm → Prop) : Prop := ∃ (r : Int32) (σ1 σ2 : Mm), isC σ x1 0 = some () ∧ f_X0_reduce fu ev σ x1 (a 1) = some (r, σ1) ∧ isC σ1 x2 2 = some () ∧ f_X2_reduce fu ev σ1 x2 (a 1) = some (r, σ2) ∧ K σ2
def lc_normal (fu : Nat) (ev : Ev) (σ : Mm) (x1 x2 : Nat) (a : Nat → Int32) (K : Mm → Prop) : Prop := ∃ (r : Int64) (σ1 σ2 : Mm), isC σ x1 0 = some () ∧ f_X0_normal fu ev σ x1 (a 1) (a 2) = some (r, σ1) ∧ isC σ1 x2 2 = some () ∧ f_X2_normal fu ev σ1 x2 (a 1) (a 2) = some (r, σ2) ∧ K σ2
def lc_log (fu : Nat) (ev : Ev) (σ : Mm) (x1 x2 : Nat) (a : Nat → Int32) (K : Mm → Prop) : Prop := ∃ (r : Int32) (σ1 σ2 : Mm), isC σ x1 0 = some () ∧ f_X0_log fu ev σ x1 (a 1) = some (r, σ1) ∧ isC σ1 x2 2 = some () ∧ f_X2_log fu ev σ1 x2 (a 1) = some (r, σ2) ∧ K σ2
def lc_forget (fu : Nat) (ev : Ev) (σ : Mm) (x1 x2 : Nat) (a : Nat → Int32) (K : Mm → Prop) : Prop := ∃ (r : Int32) (σ1 σ2 : Mm), isC σ x1 0 = some () ∧ f_X0_forget fu ev σ x1 (a 1) = some (r, σ1) ∧ isC σ1 x2 2 = some () ∧ f_X2_forget fu ev σ1 x2 (a 1) = some (r, σ2) ∧ K σ2
def lc_same (fu : Nat) (ev : Ev) (σ : Mm) (x1 x2 : Nat) (a : Nat → Int32) (K : Mm → Prop) : Prop := ∃ (r : Int32) (σ1 σ2 : Mm), isC σ x1 0 = some () ∧ f_X0_same fu ev σ x1 (a 1) (a 2) = some (r, σ1) ∧ isC σ1 x2 2 = some () ∧ f_X2_same fu ev σ1 x2 (a 1) (a 2) = some (r, σ2) ∧ K σ2
def lc_bridge (fu : Nat) (ev : Ev) (σ : Mm) (x1 x2 : Nat) (a : Nat → Int32) (K : Mm → Prop) : Prop := ∃ (r : Int64) (σ1 σ2 : Mm), isC σ x1 0 = some () ∧ f_X0_bridge fu ev σ x1 (a 1) (a 2) (a 3) (a 4) = some (r, σ1) ∧ isC σ1 x2 2 = some () ∧ f_X2_bridge fu ev σ1 x2 (a 1) (a 2) (a 3) (a 4) = some (r, σ2) ∧ K σ2
def lc_turns (fu : Nat) (ev : Ev) (σ : Mm) (x1 x2 : Nat) (a : Nat → Int32) (K : Mm → Prop) : Prop := ∃ (r : Int32) (σ1 σ2 : Mm), isC σ x1 0 = some () ∧ f_X0_turns fu ev σ x1 (a 1) (a 2) = some (r, σ1) ∧ isC σ1 x2 2 = some () ∧ f_X2_turns fu ev σ1 x2 (a 1) (a 2) = some (r, σ2) ∧ K σ2
def lc_system (fu : Nat) (ev : Ev) (σ : Mm) (x1 x2 : Nat) (a : Nat → Int32) (K : Mm → Prop) : Prop := ∃ (r : Int32) (σ1 σ2 : Mm), isC σ x1 0 = some () ∧ f_X0_system fu ev σ x1 (a 1) = some (r, σ1) ∧ isC σ1 x2 2 = some () ∧ f_X2_system fu ev σ1 x2 (a 1) = some (r, σ2) ∧ K σ2
def lc_shell (fu : Nat) (ev : Ev) (σ : Mm) (x1 x2 : Nat) (a : Nat → Int32) (K : Mm → Prop) : Prop := ∃ (r : Int32) (σ1 σ2 : Mm), isC σ x1 0 = some () ∧ f_X0_shell fu ev σ x1 (a 1) (a 2) (a 3) = some (r, σ1) ∧ isC σ1 x2 2 = some () ∧ f_X2_shell fu ev σ1 x2 (a 1) (a 2) (a 3) = some (r, σ2) ∧ K σ2
def lc_squares (fu : Nat) (ev : Ev) (σ : Mm) (x1 x2 : Nat) (a : Nat → Int32) (K : Mm → Prop) : Prop := ∃ (r : Int64) (σ1 σ2 : Mm), isC σ x1 0 = some () ∧ f_X0_squares fu ev σ x1 (a 1) = some (r, σ1) ∧ isC σ1 x2 2 = some () ∧ f_X2_squares fu ev σ1 x2 (a 1) = some (r, σ2) ∧ K σ2
def lc_within (fu : Nat) (ev : Ev) (σ : Mm) (x1 x2 : Nat) (a : Nat → Int32) (K : Mm → Prop) : Prop := ∃ (r : Int64) (σ1 σ2 : Mm), isC σ x1 0 = some () ∧ f_X0_within fu ev σ x1 (a 1) (a 2) (a 3) = some (r, σ1) ∧ isC σ1 x2 2 = some () ∧ f_X2_within fu ev σ1 x2 (a 1) (a 2) (a 3) = some (r, σ2) ∧ K σ2
def lc_holds (fu : Nat) (ev : Ev) (σ : Mm) (x1 x2 : Nat) (a : Nat → Int32) (K : Mm → Prop) : Prop := ∃ (r : Int32) (σ1 σ2 : Mm), isC σ x1 0 = some () ∧ f_X0_holds fu ev σ x1 (a 1) (a 2) (a 3) = some (r, σ1) ∧ isC σ1 x2 2 = some () ∧ f_X2_holds fu ev σ1 x2 (a 1) (a 2) (a 3) = some (r, σ2) ∧ K σ2
def lc_blunt (fu : Nat) (ev : Ev) (σ : Mm) (x1 x2 : Nat) (a : Nat → Int32) (K : Mm → Prop) : Prop := ∃ (r : Int64) (σ1 σ2 : Mm), isC σ x1 0 = some () ∧ f_X0_blunt fu ev σ x1 (a 1) (a 2) = some (r, σ1) ∧ isC σ1 x2 2 = some () ∧ f_X2_blunt fu ev σ1 x2 (a 1) (a 2) = some (r, σ2) ∧ K σ2
def lc_waits (fu : Nat) (ev : Ev) (σ : Mm) (x1 x2 : Nat) (a : Nat → Int32) (K : Mm → Prop) : Prop := ∃ (r : Int32) (σ1 σ2 : Mm), isC σ x1 0 = some () ∧ f_X0_waits fu ev σ x1 (a 1) = some (r, σ1) ∧ isC σ1 x2 2 = some () ∧ f_X2_waits fu ev σ1 x2 (a 1) = some (r, σ2) ∧ K σ2
def lc_leaves (fu : Nat) (ev : Ev) (σ : Mm) (x1 x2 : Nat) (a : Nat → Int32) (K : Mm → Prop) : Prop := ∃ (r : Int32) (σ1 σ2 : Mm), isC σ x1 0 = some () ∧ f_X0_leaves fu ev σ x1 (a 1) = some (r, σ1) ∧ isC σ1 x2 2 = some () ∧ f_X2_leaves fu ev σ1 x2 (a 1) = some (r, σ2) ∧ K σ2
def lc_works (fu : Nat) (ev : Ev) (σ : Mm) (x1 x2 : Nat) (a : Nat → Int32) (K : Mm → Prop) : Prop := ∃ (r : Int32) (σ1 σ2 : Mm), isC σ x1 0 = some () ∧ f_X0_works fu ev σ x1 (a 1) = some (r, σ1) ∧ isC σ1 x2 2 = some () ∧ f_X2_works fu ev σ1 x2 (a 1) = some (r, σ2) ∧ K σ2
def lc_line (fu : Nat) (ev : Ev) (σ : Mm) (x1 x2 : Nat) (a : Nat → Int32) (K : Mm → Prop) : Prop := ∃ (r : Int32) (σ1 σ2 : Mm), isC σ x1 0 = some () ∧ f_X0_line fu ev σ x1 (a 1) = some (r, σ1) ∧ isC σ1 x2 2 = some () ∧ f_X2_line fu ev σ1 x2 (a 1) = some (r, σ2) ∧ K σ2
def lc_clears (fu : Nat) (ev : Ev) (σ : Mm) (x1 x2 : Nat) (a : Nat → Int32) (K : Mm → Prop) : Prop := ∃ (r : Int32) (σ1 σ2 : Mm), isC σ x1 0 = some () ∧ f_X0_clears fu ev σ x1  = some (r, σ1) ∧ isC σ1 x2 2 = some () ∧ f_X2_clears fu ev σ1 x2  = some (r, σ2) ∧ K σ2
def lc_feed (fu : Nat) (ev : Ev) (σ : Mm) (x1 x2 : Nat) (a : Nat → Int32) (K : Mm → Prop) : Prop := ∃ (r : Int32) (σ1 σ2 : Mm), isC σ x1 0 = some () ∧ f_X0_feed fu ev σ x1 (a 1) = some (r, σ1) ∧ isC σ1 x2 2 = some () ∧ f_X2_feed fu ev σ1 x2 (a 1) = some (r, σ2) ∧ K σ2
def lc_reads (fu : Nat) (ev : Ev) (σ : Mm) (x1 x2 : Nat) (a : Nat → Int32) (K : Mm → Prop) : Prop := ∃ (r : Int32) (σ1 σ2 : Mm), isC σ x1 0 = some () ∧ f_X0_reads fu ev σ x1  = some (r, σ1) ∧ isC σ1 x2 2 = some () ∧ f_X2_reads fu ev σ1 x2  = some (r, σ2) ∧ K σ2
def lc_prints (fu : Nat) (ev : Ev) (σ : Mm) (x1 x2 : Nat) (a : Nat → Int32) (K : Mm → Prop) : Prop := ∃ (r : Int32) (σ1 σ2 : Mm), isC σ x1 0 = some () ∧ f_X0_prints fu ev σ x1 (a 1) (a 2) = some (r, σ1) ∧ isC σ1 x2 2 = some () ∧ f_X2_prints fu ev σ1 x2 (a 1) (a 2) = some (r, σ2) ∧ K σ2
def lc_paper (fu : Nat) (ev : Ev) (σ : Mm) (x1 x2 : Nat) (a : Nat → Int32) (K : Mm → Prop) : Prop := ∃ (r : Int32) (σ1 σ2 : Mm), isC σ x1 0 = some () ∧ f_X0_paper fu ev σ x1 (a 1) = some (r, σ1) ∧ isC σ1 x2 2 = some () ∧ f_X2_paper fu ev σ1 x2 (a 1) = some (r, σ2) ∧ K σ2
def lc_into (fu : Nat) (ev : Ev) (σ : Mm) (x1 x2 : Nat) (a : Nat → Int32) (K : Mm → Prop) : Prop := ∃ (r : Int32) (σ1 σ2 : Mm), isC σ x1 0 = some () ∧ f_X0_into fu ev σ x1 (a 1) (a 2) (a 3) (a 4) = some (r, σ1) ∧ isC σ1 x2 2 = some () ∧ f_X2_into fu ev σ1 x2 (a 1) (a 2) (a 3) (a 4) = some (r, σ2) ∧ K σ2
def lc_from (fu : Nat) (ev : Ev) (σ : Mm) (x1 x2 : Nat) (a : Nat → Int32) (K : Mm → Prop) : Prop := ∃ (r : Int32) (σ1 σ2 : Mm), isC σ x1 0 = some () ∧ f_X0_from fu ev σ x1 (a 1) (a 2) = some (r, σ1) ∧ isC σ1 x2 2 = some () ∧ f_X2_from fu ev σ1 x2 (a 1) (a 2) = some (r, σ2) ∧ K σ2
def lc_undo (fu : Nat) (ev : Ev) (σ : Mm) (x1 x2 : Nat) (a : Nat → Int32) (K : Mm → Prop) : Prop := ∃ (r : Int32) (σ1 σ2 : Mm), isC σ x1 0 = some () ∧ f_X0_undo fu ev σ x1  = some (r, σ1) ∧ isC σ1 x2 2 = some () ∧ f_X2_undo fu ev σ1 x2  = some (r, σ2) ∧ K σ2
def lc_image (fu : Nat) (ev : Ev) (σ : Mm) (x1 x2 : Nat) (a : Nat → Int32) (K : Mm → Prop) : Prop := ∃ (r : Int32) (σ1 σ2 : Mm), isC σ x1 0 = some () ∧ f_X0_image fu ev σ x1  = some (r, σ1) ∧ isC σ1 x2 2 = some () ∧ f_X2_image fu ev σ1 x2  = some (r, σ2) ∧ K σ2
def lc_back (fu : Nat) (ev : Ev) (σ : Mm) (x1 x2 : Nat) (a : Nat → Int32) (K : Mm → Prop) : Prop := ∃ (r : Int32) (σ1 σ2 : Mm), isC σ x1 0 = some () ∧ f_X0_back fu ev σ x1  = some (r, σ1) ∧ isC σ1 x2 2 = some () ∧ f_X2_back_2 fu ev σ1 x2  = some (r, σ2) ∧ K σ2
def lc_count (fu : Nat) (ev : Ev) (σ : Mm) (x1 x2 : Nat) (a : Nat → Int32) (K : Mm → Prop) : Prop := ∃ (r : Int32) (σ1 σ2 : Mm), isC σ x1 0 = some () ∧ f_X0_count fu ev σ x1 (a 1) = some (r, σ1) ∧ isC σ1 x2 2 = some () ∧ f_X2_count fu ev σ1 x2 (a 1) = some (r, σ2) ∧ K σ2
/-- list, set, get: as written, or through a handler (the machine's own objects take an unknown part of the room) -/
def xp_list (fu : Nat) (ev : Ev) (σ : Mm) (x0 : Nat) (x1 x2 : Int32) (P : Int32 → Mm → Prop) : Prop := (∃ (r : Int32) (σ1 : Mm), f_X0_list fu ev σ x0 x1 x2 = some (r, σ1) ∧ P r σ1) ∨ ∃ (v : Int32) (s2 : Mm) (v1 : Option Nat), f_X0_isList fu ev σ x1 = some (v, s2) ∧ v ≠ 0 ∧ gfA s2 x0 0 20 = some v1 ∧ x2 < 0 ∧ (s2.2.1 + 3 ≤ ev.2.1 ∧ s2.2.2 + (44 + 10) ≤ ev.2.2.1) ∧ ∀ k j : Nat, k ≤ 3 → j ≤ 54 → P (-14) (bump s2 k j)
def xp_set (fu : Nat) (ev : Ev) (σ : Mm) (x0 : Nat) (x1 x2 : Int32) (x3 : Int64) (P : Int32 → Mm → Prop) : Prop := (∃ (r : Int32) (σ1 : Mm), f_X0_set fu ev σ x0 x1 x2 x3 = some (r, σ1) ∧ P r σ1) ∨ ∃ (v : Int32) (s2 : Mm) (a2 : Nat), f_X0_isList fu ev σ x1 = some (v, s2) ∧ v ≠ 0 ∧ gfA s2 x0 0 20 = some (some a2) ∧ ((aldA 6 s2 a2 x1 = some none ∧ (s2.2.1 + 1 ≤ ev.2.1 ∧ s2.2.2 + 8 ≤ ev.2.2.1) ∧ ∀ k j : Nat, k ≤ 1 → j ≤ 8 → P (-11) (bump s2 k j)) ∨ ∃ (a4 n : Nat) (f : Nat → Int64), aldA 6 s2 a2 x1 = some (some a4) ∧ ev.1 ≤ a4 ∧ s2.1 a4 = some (.inl (1, n, .inr (.inl f))) ∧ n < 2 ^ 31 ∧ ¬ vp_in x2 n ∧ (s2.2.1 + 3 ≤ ev.2.1 ∧ s2.2.2 + (212 + 10) ≤ ev.2.2.1) ∧ ∀ k j : Nat, k ≤ 3 → j ≤ 222 → P (-13) (bump s2 k j))
def xp_get (fu : Nat) (ev : Ev) (σ : Mm) (x0 : Nat) (x1 x2 : Int32) (P : Int64 → Mm → Prop) : Prop := (∃ (r : Int64) (σ1 : Mm), f_X0_get fu ev σ x0 x1 x2 = some (r, σ1) ∧ P r σ1) ∨ ∃ (v : Int32) (s2 : Mm) (a2 : Nat), f_X0_isList fu ev σ x1 = some (v, s2) ∧ v ≠ 0 ∧ gfA s2 x0 0 20 = some (some a2) ∧ ((aldA 6 s2 a2 x1 = some none ∧ (s2.2.1 + 1 ≤ ev.2.1 ∧ s2.2.2 + 8 ≤ ev.2.2.1) ∧ ∀ k j : Nat, k ≤ 1 → j ≤ 8 → P (-9223372036854775808) (bump s2 k j)) ∨ ∃ (a4 n : Nat) (f : Nat → Int64), aldA 6 s2 a2 x1 = some (some a4) ∧ ev.1 ≤ a4 ∧ s2.1 a4 = some (.inl (1, n, .inr (.inl f))) ∧ n < 2 ^ 31 ∧ ¬ vp_in x2 n ∧ (s2.2.1 + 3 ≤ ev.2.1 ∧ s2.2.2 + (212 + 10) ≤ ev.2.2.1) ∧ ∀ k j : Nat, k ≤ 3 → j ≤ 222 → P (-9223372036854775808) (bump s2 k j))
def lc_list (fu : Nat) (ev : Ev) (σ : Mm) (x1 x2 : Nat) (a : Nat → Int32) (K : Mm → Prop) : Prop := isC σ x1 0 = some () ∧ xp_list fu ev σ x1 (a 1) (a 2) (fun r σ1 => isC σ1 x2 2 = some () ∧ ∃ σ2 : Mm, f_X2_list fu ev σ1 x2 (a 1) (a 2) = some (r, σ2) ∧ K σ2)
def lw_v (a : Nat → Int32) : Int64 := ((a 3).toInt64 <<< ((32 : Int32).toInt64 &&& 63)) ||| ((a 4).toInt64 &&& (4294967295 : Int64))
def lc_set (fu : Nat) (ev : Ev) (σ : Mm) (x1 x2 : Nat) (a : Nat → Int32) (K : Mm → Prop) : Prop := isC σ x1 0 = some () ∧ xp_set fu ev σ x1 (a 1) (a 2) (lw_v a) (fun r σ1 => isC σ1 x2 2 = some () ∧ ∃ σ2 : Mm, f_X2_set fu ev σ1 x2 (a 1) (a 2) (lw_v a) = some (r, σ2) ∧ K σ2)
def lc_get (fu : Nat) (ev : Ev) (σ : Mm) (x1 x2 : Nat) (a : Nat → Int32) (K : Mm → Prop) : Prop := isC σ x1 0 = some () ∧ xp_get fu ev σ x1 (a 1) (a 2) (fun r σ1 => isC σ1 x2 2 = some () ∧ ∃ σ2 : Mm, f_X2_get fu ev σ1 x2 (a 1) (a 2) = some (r, σ2) ∧ K σ2)
/-- one round of the law's loop -/
def St (fu : Nat) (ev : Ev) (σ : Mm) (x1 x2 : Nat) (a : Nat → Int32) (K : Mm → Prop) : Prop := if a 0 &&& 63 = 0 then lc_cell fu ev σ x1 x2 a K else if a 0 &&& 63 = 1 then lc_drop fu ev σ x1 x2 a K else if a 0 &&& 63 = 2 then lc_add fu ev σ x1 x2 a K else if a 0 &&& 63 = 3 then lc_swap fu ev σ x1 x2 a K else if a 0 &&& 63 = 4 then lc_number fu ev σ x1 x2 a K else if a 0 &&& 63 = 5 then lc_change fu ev σ x1 x2 a K else if a 0 &&& 63 = 6 then lc_fails fu ev σ x1 x2 a K else if a 0 &&& 63 = 7 then lc_step fu ev σ x1 x2 a K else if a 0 &&& 63 = 8 then lc_reduce fu ev σ x1 x2 a K else if a 0 &&& 63 = 9 then lc_normal fu ev σ x1 x2 a K else if a 0 &&& 63 = 10 then lc_log fu ev σ x1 x2 a K else if a 0 &&& 63 = 11 then lc_forget fu ev σ x1 x2 a K else if a 0 &&& 63 = 12 then lc_same fu ev σ x1 x2 a K else if a 0 &&& 63 = 13 then lc_bridge fu ev σ x1 x2 a K else if a 0 &&& 63 = 14 then lc_turns fu ev σ x1 x2 a K else if a 0 &&& 63 = 15 then lc_system fu ev σ x1 x2 a K else if a 0 &&& 63 = 16 then lc_shell fu ev σ x1 x2 a K else if a 0 &&& 63 = 17 then lc_squares fu ev σ x1 x2 a K else if a 0 &&& 63 = 18 then lc_within fu ev σ x1 x2 a K else if a 0 &&& 63 = 19 then lc_holds fu ev σ x1 x2 a K else if a 0 &&& 63 = 20 then lc_blunt fu ev σ x1 x2 a K else if a 0 &&& 63 = 21 then lc_waits fu ev σ x1 x2 a K else if a 0 &&& 63 = 22 then lc_leaves fu ev σ x1 x2 a K else if a 0 &&& 63 = 23 then lc_works fu ev σ x1 x2 a K else if a 0 &&& 63 = 24 then lc_line fu ev σ x1 x2 a K else if a 0 &&& 63 = 25 then lc_clears fu ev σ x1 x2 a K else if a 0 &&& 63 = 26 then lc_feed fu ev σ x1 x2 a K else if a 0 &&& 63 = 27 then lc_reads fu ev σ x1 x2 a K else if a 0 &&& 63 = 28 then lc_prints fu ev σ x1 x2 a K else if a 0 &&& 63 = 29 then lc_paper fu ev σ x1 x2 a K else if a 0 &&& 63 = 30 then lc_list fu ev σ x1 x2 a K else if a 0 &&& 63 = 31 then lc_set fu ev σ x1 x2 a K else if a 0 &&& 63 = 32 then lc_get fu ev σ x1 x2 a K else if a 0 &&& 63 = 33 then lc_into fu ev σ x1 x2 a K else if a 0 &&& 63 = 34 then lc_from fu ev σ x1 x2 a K else if a 0 &&& 63 = 35 then lc_undo fu ev σ x1 x2 a K else if a 0 &&& 63 = 36 then lc_image fu ev σ x1 x2 a K else if a 0 &&& 63 = 37 then lc_back fu ev σ x1 x2 a K else if a 0 &&& 63 = 38 then lc_count fu ev σ x1 x2 a K else K σ
section LAW
variable {p : Program} {l : Launch} {e : Env} {s : State} {m : MethodId} {below : List Frame} {meth : Method} {c : Code} {D : Dx} {H0 : Heap} {ev : Ev} {fu : Nat} {b x1 x2 : Nat} {x3 : Int32} {a : Nat → Int32}
set_option maxRecDepth 20000 in
theorem la_cell (C : Cx p m meth c cL_law 4 s #[Value.ref b] R_law room_1 ev D H0 35 11482) (hsc : Sc ev b x3 a) {σ σ1 : Mm} {r : Int32} (c1 : isC σ x1 0 = some ()) (f1 : f_X0_cell fu ev σ x1 (a 1) (a 2) (a 3) (a 4) (a 5) (a 6) = some (r, σ1)) (K : GG p l e room_1 s m #[Value.ref b] below meth c D H0 ev 4 (lw_Z below #[Value.ref b] s) σ1 239 [(0, .ref b), (1, .ref x1), (2, .ref x2), (3, .int x3)] [.int r]) : GG p l e room_1 s m #[Value.ref b] below meth c D H0 ev 4 (lw_Z below #[Value.ref b] s) σ 204 [(0, .ref b), (1, .ref x1), (2, .ref x2), (3, .int x3)] [] := by
  intro H locs ls hH hL hl
  refine lv_aload_n C.x C.b dL_law_204 rfl (lv_at hl 1 rfl) ?_
  refine lv_aload_n C.x C.b dL_law_205 rfl (lv_at hl 0 rfl) ?_
  refine lv_iload_n C.x C.b dL_law_206 rfl (lv_at hl 3 rfl) ?_
  refine lv_iconst (v := 1) C.x C.b dL_law_207 ki_1 ?_
  refine lv_iadd C.x C.b dL_law_208 ?_
  refine m_iald C hH (hsc.2 _ (hH.2.2.2.2.2.2.2 _ hsc.1)).2.1 dL_law_209 ?_
  refine lv_aload_n C.x C.b dL_law_210 rfl (lv_at hl 0 rfl) ?_
  refine lv_iload_n C.x C.b dL_law_211 rfl (lv_at hl 3 rfl) ?_
  refine lv_iconst (v := 2) C.x C.b dL_law_212 ki_2 ?_
  refine lv_iadd C.x C.b dL_law_213 ?_
  refine m_iald C hH (hsc.2 _ (hH.2.2.2.2.2.2.2 _ hsc.1)).2.2.1 dL_law_214 ?_
  refine lv_aload_n C.x C.b dL_law_215 rfl (lv_at hl 0 rfl) ?_
  refine lv_iload_n C.x C.b dL_law_216 rfl (lv_at hl 3 rfl) ?_
  refine lv_iconst (v := 3) C.x C.b dL_law_217 ki_3 ?_
  refine lv_iadd C.x C.b dL_law_218 ?_
  refine m_iald C hH (hsc.2 _ (hH.2.2.2.2.2.2.2 _ hsc.1)).2.2.2.1 dL_law_219 ?_
  refine lv_aload_n C.x C.b dL_law_220 rfl (lv_at hl 0 rfl) ?_
  refine lv_iload_n C.x C.b dL_law_221 rfl (lv_at hl 3 rfl) ?_
  refine lv_iconst (v := 4) C.x C.b dL_law_222 ki_4 ?_
  refine lv_iadd C.x C.b dL_law_223 ?_
  refine m_iald C hH (hsc.2 _ (hH.2.2.2.2.2.2.2 _ hsc.1)).2.2.2.2.1 dL_law_224 ?_
  refine lv_aload_n C.x C.b dL_law_225 rfl (lv_at hl 0 rfl) ?_
  refine lv_iload_n C.x C.b dL_law_226 rfl (lv_at hl 3 rfl) ?_
  refine lv_iconst (v := 5) C.x C.b dL_law_227 ki_5 ?_
  refine lv_iadd C.x C.b dL_law_228 ?_
  refine m_iald C hH (hsc.2 _ (hH.2.2.2.2.2.2.2 _ hsc.1)).2.2.2.2.2.1 dL_law_229 ?_
  refine lv_aload_n C.x C.b dL_law_230 rfl (lv_at hl 0 rfl) ?_
  refine lv_iload_n C.x C.b dL_law_231 rfl (lv_at hl 3 rfl) ?_
  refine lv_bipush (v := 6) C.x C.b dL_law_232 kb_6 ?_
  refine lv_iadd C.x C.b dL_law_234 ?_
  refine m_iald C hH (hsc.2 _ (hH.2.2.2.2.2.2.2 _ hsc.1)).2.2.2.2.2.2 dL_law_235 ?_
  refine m_callVI (As := [.int (a 1), .int (a 2), .int (a 3), .int (a 4), .int (a 5), .int (a 6)]) (rest := []) (v := r) C hH hL cv__law_13 (ct_X0_cell l D H0 f1) c1 ⟨Nat.le_of_ble_eq_true rfl, Nat.le_of_ble_eq_true rfl⟩ rfl hl.1 rfl (Nat.le_of_ble_eq_true rfl) dL_law_236 (fun H_1 locs_1 hH_1 hL_1 => ?_)
  exact K H_1 locs_1 ls hH_1 hL_1 (lv_sub hl [0, 1, 2, 3] rfl)
set_option maxRecDepth 20000 in
theorem lb_cell (C : Cx p m meth c cL_law 4 s #[Value.ref b] R_law room_1 ev D H0 35 11482) (hsc : Sc ev b x3 a) {σ1 σ2 : Mm} {r : Int32} (c2 : isC σ1 x2 2 = some ()) (f2 : f_X2_cell fu ev σ1 x2 (a 1) (a 2) (a 3) (a 4) (a 5) (a 6) = some (r, σ2)) (K : GG p l e room_1 s m #[Value.ref b] below meth c D H0 ev 4 (lw_Z below #[Value.ref b] s) σ2 1431 [(0, .ref b), (1, .ref x1), (2, .ref x2), (3, .int x3)] []) : GG p l e room_1 s m #[Value.ref b] below meth c D H0 ev 4 (lw_Z below #[Value.ref b] s) σ1 239 [(0, .ref b), (1, .ref x1), (2, .ref x2), (3, .int x3)] [.int r] := by
  intro H locs ls hH hL hl
  refine lv_aload_n C.x C.b dL_law_239 rfl (lv_at hl 2 rfl) ?_
  refine lv_aload_n C.x C.b dL_law_240 rfl (lv_at hl 0 rfl) ?_
  refine lv_iload_n C.x C.b dL_law_241 rfl (lv_at hl 3 rfl) ?_
  refine lv_iconst (v := 1) C.x C.b dL_law_242 ki_1 ?_
  refine lv_iadd C.x C.b dL_law_243 ?_
  refine m_iald C hH (hsc.2 _ (hH.2.2.2.2.2.2.2 _ hsc.1)).2.1 dL_law_244 ?_
  refine lv_aload_n C.x C.b dL_law_245 rfl (lv_at hl 0 rfl) ?_
  refine lv_iload_n C.x C.b dL_law_246 rfl (lv_at hl 3 rfl) ?_
  refine lv_iconst (v := 2) C.x C.b dL_law_247 ki_2 ?_
  refine lv_iadd C.x C.b dL_law_248 ?_
  refine m_iald C hH (hsc.2 _ (hH.2.2.2.2.2.2.2 _ hsc.1)).2.2.1 dL_law_249 ?_
  refine lv_aload_n C.x C.b dL_law_250 rfl (lv_at hl 0 rfl) ?_
  refine lv_iload_n C.x C.b dL_law_251 rfl (lv_at hl 3 rfl) ?_
  refine lv_iconst (v := 3) C.x C.b dL_law_252 ki_3 ?_
  refine lv_iadd C.x C.b dL_law_253 ?_
  refine m_iald C hH (hsc.2 _ (hH.2.2.2.2.2.2.2 _ hsc.1)).2.2.2.1 dL_law_254 ?_
  refine lv_aload_n C.x C.b dL_law_255 rfl (lv_at hl 0 rfl) ?_
  refine lv_iload_n C.x C.b dL_law_256 rfl (lv_at hl 3 rfl) ?_
  refine lv_iconst (v := 4) C.x C.b dL_law_257 ki_4 ?_
  refine lv_iadd C.x C.b dL_law_258 ?_
  refine m_iald C hH (hsc.2 _ (hH.2.2.2.2.2.2.2 _ hsc.1)).2.2.2.2.1 dL_law_259 ?_
  refine lv_aload_n C.x C.b dL_law_260 rfl (lv_at hl 0 rfl) ?_
  refine lv_iload_n C.x C.b dL_law_261 rfl (lv_at hl 3 rfl) ?_
  refine lv_iconst (v := 5) C.x C.b dL_law_262 ki_5 ?_
  refine lv_iadd C.x C.b dL_law_263 ?_
  refine m_iald C hH (hsc.2 _ (hH.2.2.2.2.2.2.2 _ hsc.1)).2.2.2.2.2.1 dL_law_264 ?_
  refine lv_aload_n C.x C.b dL_law_265 rfl (lv_at hl 0 rfl) ?_
  refine lv_iload_n C.x C.b dL_law_266 rfl (lv_at hl 3 rfl) ?_
  refine lv_bipush (v := 6) C.x C.b dL_law_267 kb_6 ?_
  refine lv_iadd C.x C.b dL_law_269 ?_
  refine m_iald C hH (hsc.2 _ (hH.2.2.2.2.2.2.2 _ hsc.1)).2.2.2.2.2.2 dL_law_270 ?_
  refine m_callVI (As := [.int (a 1), .int (a 2), .int (a 3), .int (a 4), .int (a 5), .int (a 6)]) (rest := [.int r]) (v := r) C hH hL cv__law_17 (ct_X2_cell l D H0 f2) c2 ⟨Nat.le_of_ble_eq_true rfl, Nat.le_of_ble_eq_true rfl⟩ rfl hl.1 rfl (Nat.le_of_ble_eq_true rfl) dL_law_271 (fun H_1 locs_1 hH_1 hL_1 => ?_)
  refine lv_icmp_eq (tgt := 1431) C.x C.b dL_law_274 (by decide) (fun q => ?_) (fun q => absurd rfl q)
  exact K H_1 locs_1 ls hH_1 hL_1 (lv_sub hl [0, 1, 2, 3] rfl)
set_option maxRecDepth 20000 in
theorem la_drop (C : Cx p m meth c cL_law 4 s #[Value.ref b] R_law room_1 ev D H0 35 11482) (hsc : Sc ev b x3 a) {σ σ1 : Mm} {r : Int32} (c1 : isC σ x1 0 = some ()) (f1 : f_X0_drop fu ev σ x1  = some (r, σ1)) (K : GG p l e room_1 s m #[Value.ref b] below meth c D H0 ev 4 (lw_Z below #[Value.ref b] s) σ1 283 [(0, .ref b), (1, .ref x1), (2, .ref x2), (3, .int x3)] [.int r]) : GG p l e room_1 s m #[Value.ref b] below meth c D H0 ev 4 (lw_Z below #[Value.ref b] s) σ 279 [(0, .ref b), (1, .ref x1), (2, .ref x2), (3, .int x3)] [] := by
  intro H locs ls hH hL hl
  refine lv_aload_n C.x C.b dL_law_279 rfl (lv_at hl 1 rfl) ?_
  refine m_callVI (As := []) (rest := []) (v := r) C hH hL cv__law_18 (ct_X0_drop l D H0 f1) c1 ⟨Nat.le_of_ble_eq_true rfl, Nat.le_of_ble_eq_true rfl⟩ rfl hl.1 rfl (Nat.le_of_ble_eq_true rfl) dL_law_280 (fun H_1 locs_1 hH_1 hL_1 => ?_)
  exact K H_1 locs_1 ls hH_1 hL_1 (lv_sub hl [0, 1, 2, 3] rfl)
set_option maxRecDepth 20000 in
theorem lb_drop (C : Cx p m meth c cL_law 4 s #[Value.ref b] R_law room_1 ev D H0 35 11482) (hsc : Sc ev b x3 a) {σ1 σ2 : Mm} {r : Int32} (c2 : isC σ1 x2 2 = some ()) (f2 : f_X2_drop fu ev σ1 x2  = some (r, σ2)) (K : GG p l e room_1 s m #[Value.ref b] below meth c D H0 ev 4 (lw_Z below #[Value.ref b] s) σ2 1431 [(0, .ref b), (1, .ref x1), (2, .ref x2), (3, .int x3)] []) : GG p l e room_1 s m #[Value.ref b] below meth c D H0 ev 4 (lw_Z below #[Value.ref b] s) σ1 283 [(0, .ref b), (1, .ref x1), (2, .ref x2), (3, .int x3)] [.int r] := by
  intro H locs ls hH hL hl
  refine lv_aload_n C.x C.b dL_law_283 rfl (lv_at hl 2 rfl) ?_
  refine m_callVI (As := []) (rest := [.int r]) (v := r) C hH hL cv__law_22 (ct_X2_drop l D H0 f2) c2 ⟨Nat.le_of_ble_eq_true rfl, Nat.le_of_ble_eq_true rfl⟩ rfl hl.1 rfl (Nat.le_of_ble_eq_true rfl) dL_law_284 (fun H_1 locs_1 hH_1 hL_1 => ?_)
  refine lv_icmp_eq (tgt := 1431) C.x C.b dL_law_287 (by decide) (fun q => ?_) (fun q => absurd rfl q)
  exact K H_1 locs_1 ls hH_1 hL_1 (lv_sub hl [0, 1, 2, 3] rfl)
set_option maxRecDepth 20000 in
theorem la_add (C : Cx p m meth c cL_law 4 s #[Value.ref b] R_law room_1 ev D H0 35 11482) (hsc : Sc ev b x3 a) {σ σ1 : Mm} {r : Int32} (c1 : isC σ x1 0 = some ()) (f1 : f_X0_add fu ev σ x1 (a 1) (a 2) (a 3) (a 4) = some (r, σ1)) (K : GG p l e room_1 s m #[Value.ref b] below meth c D H0 ev 4 (lw_Z below #[Value.ref b] s) σ1 316 [(0, .ref b), (1, .ref x1), (2, .ref x2), (3, .int x3)] [.int r]) : GG p l e room_1 s m #[Value.ref b] below meth c D H0 ev 4 (lw_Z below #[Value.ref b] s) σ 292 [(0, .ref b), (1, .ref x1), (2, .ref x2), (3, .int x3)] [] := by
  intro H locs ls hH hL hl
  refine lv_aload_n C.x C.b dL_law_292 rfl (lv_at hl 1 rfl) ?_
  refine lv_aload_n C.x C.b dL_law_293 rfl (lv_at hl 0 rfl) ?_
  refine lv_iload_n C.x C.b dL_law_294 rfl (lv_at hl 3 rfl) ?_
  refine lv_iconst (v := 1) C.x C.b dL_law_295 ki_1 ?_
  refine lv_iadd C.x C.b dL_law_296 ?_
  refine m_iald C hH (hsc.2 _ (hH.2.2.2.2.2.2.2 _ hsc.1)).2.1 dL_law_297 ?_
  refine lv_aload_n C.x C.b dL_law_298 rfl (lv_at hl 0 rfl) ?_
  refine lv_iload_n C.x C.b dL_law_299 rfl (lv_at hl 3 rfl) ?_
  refine lv_iconst (v := 2) C.x C.b dL_law_300 ki_2 ?_
  refine lv_iadd C.x C.b dL_law_301 ?_
  refine m_iald C hH (hsc.2 _ (hH.2.2.2.2.2.2.2 _ hsc.1)).2.2.1 dL_law_302 ?_
  refine lv_aload_n C.x C.b dL_law_303 rfl (lv_at hl 0 rfl) ?_
  refine lv_iload_n C.x C.b dL_law_304 rfl (lv_at hl 3 rfl) ?_
  refine lv_iconst (v := 3) C.x C.b dL_law_305 ki_3 ?_
  refine lv_iadd C.x C.b dL_law_306 ?_
  refine m_iald C hH (hsc.2 _ (hH.2.2.2.2.2.2.2 _ hsc.1)).2.2.2.1 dL_law_307 ?_
  refine lv_aload_n C.x C.b dL_law_308 rfl (lv_at hl 0 rfl) ?_
  refine lv_iload_n C.x C.b dL_law_309 rfl (lv_at hl 3 rfl) ?_
  refine lv_iconst (v := 4) C.x C.b dL_law_310 ki_4 ?_
  refine lv_iadd C.x C.b dL_law_311 ?_
  refine m_iald C hH (hsc.2 _ (hH.2.2.2.2.2.2.2 _ hsc.1)).2.2.2.2.1 dL_law_312 ?_
  refine m_callVI (As := [.int (a 1), .int (a 2), .int (a 3), .int (a 4)]) (rest := []) (v := r) C hH hL cv__law_23 (ct_X0_add l D H0 f1) c1 ⟨Nat.le_of_ble_eq_true rfl, Nat.le_of_ble_eq_true rfl⟩ rfl hl.1 rfl (Nat.le_of_ble_eq_true rfl) dL_law_313 (fun H_1 locs_1 hH_1 hL_1 => ?_)
  exact K H_1 locs_1 ls hH_1 hL_1 (lv_sub hl [0, 1, 2, 3] rfl)
set_option maxRecDepth 20000 in
theorem lb_add (C : Cx p m meth c cL_law 4 s #[Value.ref b] R_law room_1 ev D H0 35 11482) (hsc : Sc ev b x3 a) {σ1 σ2 : Mm} {r : Int32} (c2 : isC σ1 x2 2 = some ()) (f2 : f_X2_add fu ev σ1 x2 (a 1) (a 2) (a 3) (a 4) = some (r, σ2)) (K : GG p l e room_1 s m #[Value.ref b] below meth c D H0 ev 4 (lw_Z below #[Value.ref b] s) σ2 1431 [(0, .ref b), (1, .ref x1), (2, .ref x2), (3, .int x3)] []) : GG p l e room_1 s m #[Value.ref b] below meth c D H0 ev 4 (lw_Z below #[Value.ref b] s) σ1 316 [(0, .ref b), (1, .ref x1), (2, .ref x2), (3, .int x3)] [.int r] := by
  intro H locs ls hH hL hl
  refine lv_aload_n C.x C.b dL_law_316 rfl (lv_at hl 2 rfl) ?_
  refine lv_aload_n C.x C.b dL_law_317 rfl (lv_at hl 0 rfl) ?_
  refine lv_iload_n C.x C.b dL_law_318 rfl (lv_at hl 3 rfl) ?_
  refine lv_iconst (v := 1) C.x C.b dL_law_319 ki_1 ?_
  refine lv_iadd C.x C.b dL_law_320 ?_
  refine m_iald C hH (hsc.2 _ (hH.2.2.2.2.2.2.2 _ hsc.1)).2.1 dL_law_321 ?_
  refine lv_aload_n C.x C.b dL_law_322 rfl (lv_at hl 0 rfl) ?_
  refine lv_iload_n C.x C.b dL_law_323 rfl (lv_at hl 3 rfl) ?_
  refine lv_iconst (v := 2) C.x C.b dL_law_324 ki_2 ?_
  refine lv_iadd C.x C.b dL_law_325 ?_
  refine m_iald C hH (hsc.2 _ (hH.2.2.2.2.2.2.2 _ hsc.1)).2.2.1 dL_law_326 ?_
  refine lv_aload_n C.x C.b dL_law_327 rfl (lv_at hl 0 rfl) ?_
  refine lv_iload_n C.x C.b dL_law_328 rfl (lv_at hl 3 rfl) ?_
  refine lv_iconst (v := 3) C.x C.b dL_law_329 ki_3 ?_
  refine lv_iadd C.x C.b dL_law_330 ?_
  refine m_iald C hH (hsc.2 _ (hH.2.2.2.2.2.2.2 _ hsc.1)).2.2.2.1 dL_law_331 ?_
  refine lv_aload_n C.x C.b dL_law_332 rfl (lv_at hl 0 rfl) ?_
  refine lv_iload_n C.x C.b dL_law_333 rfl (lv_at hl 3 rfl) ?_
  refine lv_iconst (v := 4) C.x C.b dL_law_334 ki_4 ?_
  refine lv_iadd C.x C.b dL_law_335 ?_
  refine m_iald C hH (hsc.2 _ (hH.2.2.2.2.2.2.2 _ hsc.1)).2.2.2.2.1 dL_law_336 ?_
  refine m_callVI (As := [.int (a 1), .int (a 2), .int (a 3), .int (a 4)]) (rest := [.int r]) (v := r) C hH hL cv__law_27 (ct_X2_add l D H0 f2) c2 ⟨Nat.le_of_ble_eq_true rfl, Nat.le_of_ble_eq_true rfl⟩ rfl hl.1 rfl (Nat.le_of_ble_eq_true rfl) dL_law_337 (fun H_1 locs_1 hH_1 hL_1 => ?_)
  refine lv_icmp_eq (tgt := 1431) C.x C.b dL_law_340 (by decide) (fun q => ?_) (fun q => absurd rfl q)
  exact K H_1 locs_1 ls hH_1 hL_1 (lv_sub hl [0, 1, 2, 3] rfl)
set_option maxRecDepth 20000 in
theorem la_swap (C : Cx p m meth c cL_law 4 s #[Value.ref b] R_law room_1 ev D H0 35 11482) (hsc : Sc ev b x3 a) {σ σ1 : Mm} {r : Int32} (c1 : isC σ x1 0 = some ()) (f1 : f_X0_swap fu ev σ x1 (a 1) (a 2) (a 3) = some (r, σ1)) (K : GG p l e room_1 s m #[Value.ref b] below meth c D H0 ev 4 (lw_Z below #[Value.ref b] s) σ1 364 [(0, .ref b), (1, .ref x1), (2, .ref x2), (3, .int x3)] [.int r]) : GG p l e room_1 s m #[Value.ref b] below meth c D H0 ev 4 (lw_Z below #[Value.ref b] s) σ 345 [(0, .ref b), (1, .ref x1), (2, .ref x2), (3, .int x3)] [] := by
  intro H locs ls hH hL hl
  refine lv_aload_n C.x C.b dL_law_345 rfl (lv_at hl 1 rfl) ?_
  refine lv_aload_n C.x C.b dL_law_346 rfl (lv_at hl 0 rfl) ?_
  refine lv_iload_n C.x C.b dL_law_347 rfl (lv_at hl 3 rfl) ?_
  refine lv_iconst (v := 1) C.x C.b dL_law_348 ki_1 ?_
  refine lv_iadd C.x C.b dL_law_349 ?_
  refine m_iald C hH (hsc.2 _ (hH.2.2.2.2.2.2.2 _ hsc.1)).2.1 dL_law_350 ?_
  refine lv_aload_n C.x C.b dL_law_351 rfl (lv_at hl 0 rfl) ?_
  refine lv_iload_n C.x C.b dL_law_352 rfl (lv_at hl 3 rfl) ?_
  refine lv_iconst (v := 2) C.x C.b dL_law_353 ki_2 ?_
  refine lv_iadd C.x C.b dL_law_354 ?_
  refine m_iald C hH (hsc.2 _ (hH.2.2.2.2.2.2.2 _ hsc.1)).2.2.1 dL_law_355 ?_
  refine lv_aload_n C.x C.b dL_law_356 rfl (lv_at hl 0 rfl) ?_
  refine lv_iload_n C.x C.b dL_law_357 rfl (lv_at hl 3 rfl) ?_
  refine lv_iconst (v := 3) C.x C.b dL_law_358 ki_3 ?_
  refine lv_iadd C.x C.b dL_law_359 ?_
  refine m_iald C hH (hsc.2 _ (hH.2.2.2.2.2.2.2 _ hsc.1)).2.2.2.1 dL_law_360 ?_
  refine m_callVI (As := [.int (a 1), .int (a 2), .int (a 3)]) (rest := []) (v := r) C hH hL cv__law_28 (ct_X0_swap l D H0 f1) c1 ⟨Nat.le_of_ble_eq_true rfl, Nat.le_of_ble_eq_true rfl⟩ rfl hl.1 rfl (Nat.le_of_ble_eq_true rfl) dL_law_361 (fun H_1 locs_1 hH_1 hL_1 => ?_)
  exact K H_1 locs_1 ls hH_1 hL_1 (lv_sub hl [0, 1, 2, 3] rfl)
set_option maxRecDepth 20000 in
theorem lb_swap (C : Cx p m meth c cL_law 4 s #[Value.ref b] R_law room_1 ev D H0 35 11482) (hsc : Sc ev b x3 a) {σ1 σ2 : Mm} {r : Int32} (c2 : isC σ1 x2 2 = some ()) (f2 : f_X2_swap fu ev σ1 x2 (a 1) (a 2) (a 3) = some (r, σ2)) (K : GG p l e room_1 s m #[Value.ref b] below meth c D H0 ev 4 (lw_Z below #[Value.ref b] s) σ2 1431 [(0, .ref b), (1, .ref x1), (2, .ref x2), (3, .int x3)] []) : GG p l e room_1 s m #[Value.ref b] below meth c D H0 ev 4 (lw_Z below #[Value.ref b] s) σ1 364 [(0, .ref b), (1, .ref x1), (2, .ref x2), (3, .int x3)] [.int r] := by
  intro H locs ls hH hL hl
  refine lv_aload_n C.x C.b dL_law_364 rfl (lv_at hl 2 rfl) ?_
  refine lv_aload_n C.x C.b dL_law_365 rfl (lv_at hl 0 rfl) ?_
  refine lv_iload_n C.x C.b dL_law_366 rfl (lv_at hl 3 rfl) ?_
  refine lv_iconst (v := 1) C.x C.b dL_law_367 ki_1 ?_
  refine lv_iadd C.x C.b dL_law_368 ?_
  refine m_iald C hH (hsc.2 _ (hH.2.2.2.2.2.2.2 _ hsc.1)).2.1 dL_law_369 ?_
  refine lv_aload_n C.x C.b dL_law_370 rfl (lv_at hl 0 rfl) ?_
  refine lv_iload_n C.x C.b dL_law_371 rfl (lv_at hl 3 rfl) ?_
  refine lv_iconst (v := 2) C.x C.b dL_law_372 ki_2 ?_
  refine lv_iadd C.x C.b dL_law_373 ?_
  refine m_iald C hH (hsc.2 _ (hH.2.2.2.2.2.2.2 _ hsc.1)).2.2.1 dL_law_374 ?_
  refine lv_aload_n C.x C.b dL_law_375 rfl (lv_at hl 0 rfl) ?_
  refine lv_iload_n C.x C.b dL_law_376 rfl (lv_at hl 3 rfl) ?_
  refine lv_iconst (v := 3) C.x C.b dL_law_377 ki_3 ?_
  refine lv_iadd C.x C.b dL_law_378 ?_
  refine m_iald C hH (hsc.2 _ (hH.2.2.2.2.2.2.2 _ hsc.1)).2.2.2.1 dL_law_379 ?_
  refine m_callVI (As := [.int (a 1), .int (a 2), .int (a 3)]) (rest := [.int r]) (v := r) C hH hL cv__law_32 (ct_X2_swap l D H0 f2) c2 ⟨Nat.le_of_ble_eq_true rfl, Nat.le_of_ble_eq_true rfl⟩ rfl hl.1 rfl (Nat.le_of_ble_eq_true rfl) dL_law_380 (fun H_1 locs_1 hH_1 hL_1 => ?_)
  refine lv_icmp_eq (tgt := 1431) C.x C.b dL_law_383 (by decide) (fun q => ?_) (fun q => absurd rfl q)
  exact K H_1 locs_1 ls hH_1 hL_1 (lv_sub hl [0, 1, 2, 3] rfl)
set_option maxRecDepth 20000 in
theorem la_number (C : Cx p m meth c cL_law 4 s #[Value.ref b] R_law room_1 ev D H0 35 11482) (hsc : Sc ev b x3 a) {σ σ1 : Mm} {r : Int64} (c1 : isC σ x1 0 = some ()) (f1 : f_X0_number fu ev σ x1 (a 1) (a 2) = some (r, σ1)) (K : GG p l e room_1 s m #[Value.ref b] below meth c D H0 ev 4 (lw_Z below #[Value.ref b] s) σ1 402 [(0, .ref b), (1, .ref x1), (2, .ref x2), (3, .int x3)] [.long r]) : GG p l e room_1 s m #[Value.ref b] below meth c D H0 ev 4 (lw_Z below #[Value.ref b] s) σ 388 [(0, .ref b), (1, .ref x1), (2, .ref x2), (3, .int x3)] [] := by
  intro H locs ls hH hL hl
  refine lv_aload_n C.x C.b dL_law_388 rfl (lv_at hl 1 rfl) ?_
  refine lv_aload_n C.x C.b dL_law_389 rfl (lv_at hl 0 rfl) ?_
  refine lv_iload_n C.x C.b dL_law_390 rfl (lv_at hl 3 rfl) ?_
  refine lv_iconst (v := 1) C.x C.b dL_law_391 ki_1 ?_
  refine lv_iadd C.x C.b dL_law_392 ?_
  refine m_iald C hH (hsc.2 _ (hH.2.2.2.2.2.2.2 _ hsc.1)).2.1 dL_law_393 ?_
  refine lv_aload_n C.x C.b dL_law_394 rfl (lv_at hl 0 rfl) ?_
  refine lv_iload_n C.x C.b dL_law_395 rfl (lv_at hl 3 rfl) ?_
  refine lv_iconst (v := 2) C.x C.b dL_law_396 ki_2 ?_
  refine lv_iadd C.x C.b dL_law_397 ?_
  refine m_iald C hH (hsc.2 _ (hH.2.2.2.2.2.2.2 _ hsc.1)).2.2.1 dL_law_398 ?_
  refine m_callVJ (As := [.int (a 1), .int (a 2)]) (rest := []) (v := r) C hH hL cv__law_33 (ct_X0_number l D H0 f1) c1 ⟨Nat.le_of_ble_eq_true rfl, Nat.le_of_ble_eq_true rfl⟩ rfl hl.1 rfl (Nat.le_of_ble_eq_true rfl) dL_law_399 (fun H_1 locs_1 hH_1 hL_1 => ?_)
  exact K H_1 locs_1 ls hH_1 hL_1 (lv_sub hl [0, 1, 2, 3] rfl)
set_option maxRecDepth 20000 in
theorem lb_number (C : Cx p m meth c cL_law 4 s #[Value.ref b] R_law room_1 ev D H0 35 11482) (hsc : Sc ev b x3 a) {σ1 σ2 : Mm} {r : Int64} (c2 : isC σ1 x2 2 = some ()) (f2 : f_X2_number fu ev σ1 x2 (a 1) (a 2) = some (r, σ2)) (K : GG p l e room_1 s m #[Value.ref b] below meth c D H0 ev 4 (lw_Z below #[Value.ref b] s) σ2 1431 [(0, .ref b), (1, .ref x1), (2, .ref x2), (3, .int x3)] []) : GG p l e room_1 s m #[Value.ref b] below meth c D H0 ev 4 (lw_Z below #[Value.ref b] s) σ1 402 [(0, .ref b), (1, .ref x1), (2, .ref x2), (3, .int x3)] [.long r] := by
  intro H locs ls hH hL hl
  refine lv_aload_n C.x C.b dL_law_402 rfl (lv_at hl 2 rfl) ?_
  refine lv_aload_n C.x C.b dL_law_403 rfl (lv_at hl 0 rfl) ?_
  refine lv_iload_n C.x C.b dL_law_404 rfl (lv_at hl 3 rfl) ?_
  refine lv_iconst (v := 1) C.x C.b dL_law_405 ki_1 ?_
  refine lv_iadd C.x C.b dL_law_406 ?_
  refine m_iald C hH (hsc.2 _ (hH.2.2.2.2.2.2.2 _ hsc.1)).2.1 dL_law_407 ?_
  refine lv_aload_n C.x C.b dL_law_408 rfl (lv_at hl 0 rfl) ?_
  refine lv_iload_n C.x C.b dL_law_409 rfl (lv_at hl 3 rfl) ?_
  refine lv_iconst (v := 2) C.x C.b dL_law_410 ki_2 ?_
  refine lv_iadd C.x C.b dL_law_411 ?_
  refine m_iald C hH (hsc.2 _ (hH.2.2.2.2.2.2.2 _ hsc.1)).2.2.1 dL_law_412 ?_
  refine m_callVJ (As := [.int (a 1), .int (a 2)]) (rest := [.long r]) (v := r) C hH hL cv__law_37 (ct_X2_number l D H0 f2) c2 ⟨Nat.le_of_ble_eq_true rfl, Nat.le_of_ble_eq_true rfl⟩ rfl hl.1 rfl (Nat.le_of_ble_eq_true rfl) dL_law_413 (fun H_1 locs_1 hH_1 hL_1 => ?_)
  refine r_lc_eq (tgt := 1431) C.x C.b dL_law_416 dL_law_417 (by decide) (fun q => ?_) (fun q => absurd rfl q)
  exact K H_1 locs_1 ls hH_1 hL_1 (lv_sub hl [0, 1, 2, 3] rfl)
set_option maxRecDepth 20000 in
theorem la_change (C : Cx p m meth c cL_law 4 s #[Value.ref b] R_law room_1 ev D H0 35 11482) (hsc : Sc ev b x3 a) {σ σ1 : Mm} {r : Int64} (c1 : isC σ x1 0 = some ()) (f1 : f_X0_change fu ev σ x1 (a 1) (a 2) (a 3) = some (r, σ1)) (K : GG p l e room_1 s m #[Value.ref b] below meth c D H0 ev 4 (lw_Z below #[Value.ref b] s) σ1 441 [(0, .ref b), (1, .ref x1), (2, .ref x2), (3, .int x3)] [.long r]) : GG p l e room_1 s m #[Value.ref b] below meth c D H0 ev 4 (lw_Z below #[Value.ref b] s) σ 422 [(0, .ref b), (1, .ref x1), (2, .ref x2), (3, .int x3)] [] := by
  intro H locs ls hH hL hl
  refine lv_aload_n C.x C.b dL_law_422 rfl (lv_at hl 1 rfl) ?_
  refine lv_aload_n C.x C.b dL_law_423 rfl (lv_at hl 0 rfl) ?_
  refine lv_iload_n C.x C.b dL_law_424 rfl (lv_at hl 3 rfl) ?_
  refine lv_iconst (v := 1) C.x C.b dL_law_425 ki_1 ?_
  refine lv_iadd C.x C.b dL_law_426 ?_
  refine m_iald C hH (hsc.2 _ (hH.2.2.2.2.2.2.2 _ hsc.1)).2.1 dL_law_427 ?_
  refine lv_aload_n C.x C.b dL_law_428 rfl (lv_at hl 0 rfl) ?_
  refine lv_iload_n C.x C.b dL_law_429 rfl (lv_at hl 3 rfl) ?_
  refine lv_iconst (v := 2) C.x C.b dL_law_430 ki_2 ?_
  refine lv_iadd C.x C.b dL_law_431 ?_
  refine m_iald C hH (hsc.2 _ (hH.2.2.2.2.2.2.2 _ hsc.1)).2.2.1 dL_law_432 ?_
  refine lv_aload_n C.x C.b dL_law_433 rfl (lv_at hl 0 rfl) ?_
  refine lv_iload_n C.x C.b dL_law_434 rfl (lv_at hl 3 rfl) ?_
  refine lv_iconst (v := 3) C.x C.b dL_law_435 ki_3 ?_
  refine lv_iadd C.x C.b dL_law_436 ?_
  refine m_iald C hH (hsc.2 _ (hH.2.2.2.2.2.2.2 _ hsc.1)).2.2.2.1 dL_law_437 ?_
  refine m_callVJ (As := [.int (a 1), .int (a 2), .int (a 3)]) (rest := []) (v := r) C hH hL cv__law_38 (ct_X0_change l D H0 f1) c1 ⟨Nat.le_of_ble_eq_true rfl, Nat.le_of_ble_eq_true rfl⟩ rfl hl.1 rfl (Nat.le_of_ble_eq_true rfl) dL_law_438 (fun H_1 locs_1 hH_1 hL_1 => ?_)
  exact K H_1 locs_1 ls hH_1 hL_1 (lv_sub hl [0, 1, 2, 3] rfl)
set_option maxRecDepth 20000 in
theorem lb_change (C : Cx p m meth c cL_law 4 s #[Value.ref b] R_law room_1 ev D H0 35 11482) (hsc : Sc ev b x3 a) {σ1 σ2 : Mm} {r : Int64} (c2 : isC σ1 x2 2 = some ()) (f2 : f_X2_change fu ev σ1 x2 (a 1) (a 2) (a 3) = some (r, σ2)) (K : GG p l e room_1 s m #[Value.ref b] below meth c D H0 ev 4 (lw_Z below #[Value.ref b] s) σ2 1431 [(0, .ref b), (1, .ref x1), (2, .ref x2), (3, .int x3)] []) : GG p l e room_1 s m #[Value.ref b] below meth c D H0 ev 4 (lw_Z below #[Value.ref b] s) σ1 441 [(0, .ref b), (1, .ref x1), (2, .ref x2), (3, .int x3)] [.long r] := by
  intro H locs ls hH hL hl
  refine lv_aload_n C.x C.b dL_law_441 rfl (lv_at hl 2 rfl) ?_
  refine lv_aload_n C.x C.b dL_law_442 rfl (lv_at hl 0 rfl) ?_
  refine lv_iload_n C.x C.b dL_law_443 rfl (lv_at hl 3 rfl) ?_
  refine lv_iconst (v := 1) C.x C.b dL_law_444 ki_1 ?_
  refine lv_iadd C.x C.b dL_law_445 ?_
  refine m_iald C hH (hsc.2 _ (hH.2.2.2.2.2.2.2 _ hsc.1)).2.1 dL_law_446 ?_
  refine lv_aload_n C.x C.b dL_law_447 rfl (lv_at hl 0 rfl) ?_
  refine lv_iload_n C.x C.b dL_law_448 rfl (lv_at hl 3 rfl) ?_
  refine lv_iconst (v := 2) C.x C.b dL_law_449 ki_2 ?_
  refine lv_iadd C.x C.b dL_law_450 ?_
  refine m_iald C hH (hsc.2 _ (hH.2.2.2.2.2.2.2 _ hsc.1)).2.2.1 dL_law_451 ?_
  refine lv_aload_n C.x C.b dL_law_452 rfl (lv_at hl 0 rfl) ?_
  refine lv_iload_n C.x C.b dL_law_453 rfl (lv_at hl 3 rfl) ?_
  refine lv_iconst (v := 3) C.x C.b dL_law_454 ki_3 ?_
  refine lv_iadd C.x C.b dL_law_455 ?_
  refine m_iald C hH (hsc.2 _ (hH.2.2.2.2.2.2.2 _ hsc.1)).2.2.2.1 dL_law_456 ?_
  refine m_callVJ (As := [.int (a 1), .int (a 2), .int (a 3)]) (rest := [.long r]) (v := r) C hH hL cv__law_42 (ct_X2_change l D H0 f2) c2 ⟨Nat.le_of_ble_eq_true rfl, Nat.le_of_ble_eq_true rfl⟩ rfl hl.1 rfl (Nat.le_of_ble_eq_true rfl) dL_law_457 (fun H_1 locs_1 hH_1 hL_1 => ?_)
  refine r_lc_eq (tgt := 1431) C.x C.b dL_law_460 dL_law_461 (by decide) (fun q => ?_) (fun q => absurd rfl q)
  exact K H_1 locs_1 ls hH_1 hL_1 (lv_sub hl [0, 1, 2, 3] rfl)
set_option maxRecDepth 20000 in
theorem la_fails (C : Cx p m meth c cL_law 4 s #[Value.ref b] R_law room_1 ev D H0 35 11482) (hsc : Sc ev b x3 a) {σ σ1 : Mm} {r : Int32} (c1 : isC σ x1 0 = some ()) (f1 : f_X0_fails fu ev σ x1 (a 1) = some (r, σ1)) (K : GG p l e room_1 s m #[Value.ref b] below meth c D H0 ev 4 (lw_Z below #[Value.ref b] s) σ1 475 [(0, .ref b), (1, .ref x1), (2, .ref x2), (3, .int x3)] [.int r]) : GG p l e room_1 s m #[Value.ref b] below meth c D H0 ev 4 (lw_Z below #[Value.ref b] s) σ 466 [(0, .ref b), (1, .ref x1), (2, .ref x2), (3, .int x3)] [] := by
  intro H locs ls hH hL hl
  refine lv_aload_n C.x C.b dL_law_466 rfl (lv_at hl 1 rfl) ?_
  refine lv_aload_n C.x C.b dL_law_467 rfl (lv_at hl 0 rfl) ?_
  refine lv_iload_n C.x C.b dL_law_468 rfl (lv_at hl 3 rfl) ?_
  refine lv_iconst (v := 1) C.x C.b dL_law_469 ki_1 ?_
  refine lv_iadd C.x C.b dL_law_470 ?_
  refine m_iald C hH (hsc.2 _ (hH.2.2.2.2.2.2.2 _ hsc.1)).2.1 dL_law_471 ?_
  refine m_callVI (As := [.int (a 1)]) (rest := []) (v := r) C hH hL cv__law_43 (ct_X0_fails l D H0 f1) c1 ⟨Nat.le_of_ble_eq_true rfl, Nat.le_of_ble_eq_true rfl⟩ rfl hl.1 rfl (Nat.le_of_ble_eq_true rfl) dL_law_472 (fun H_1 locs_1 hH_1 hL_1 => ?_)
  exact K H_1 locs_1 ls hH_1 hL_1 (lv_sub hl [0, 1, 2, 3] rfl)
set_option maxRecDepth 20000 in
theorem lb_fails (C : Cx p m meth c cL_law 4 s #[Value.ref b] R_law room_1 ev D H0 35 11482) (hsc : Sc ev b x3 a) {σ1 σ2 : Mm} {r : Int32} (c2 : isC σ1 x2 2 = some ()) (f2 : f_X2_fails fu ev σ1 x2 (a 1) = some (r, σ2)) (K : GG p l e room_1 s m #[Value.ref b] below meth c D H0 ev 4 (lw_Z below #[Value.ref b] s) σ2 1431 [(0, .ref b), (1, .ref x1), (2, .ref x2), (3, .int x3)] []) : GG p l e room_1 s m #[Value.ref b] below meth c D H0 ev 4 (lw_Z below #[Value.ref b] s) σ1 475 [(0, .ref b), (1, .ref x1), (2, .ref x2), (3, .int x3)] [.int r] := by
  intro H locs ls hH hL hl
  refine lv_aload_n C.x C.b dL_law_475 rfl (lv_at hl 2 rfl) ?_
  refine lv_aload_n C.x C.b dL_law_476 rfl (lv_at hl 0 rfl) ?_
  refine lv_iload_n C.x C.b dL_law_477 rfl (lv_at hl 3 rfl) ?_
  refine lv_iconst (v := 1) C.x C.b dL_law_478 ki_1 ?_
  refine lv_iadd C.x C.b dL_law_479 ?_
  refine m_iald C hH (hsc.2 _ (hH.2.2.2.2.2.2.2 _ hsc.1)).2.1 dL_law_480 ?_
  refine m_callVI (As := [.int (a 1)]) (rest := [.int r]) (v := r) C hH hL cv__law_47 (ct_X2_fails l D H0 f2) c2 ⟨Nat.le_of_ble_eq_true rfl, Nat.le_of_ble_eq_true rfl⟩ rfl hl.1 rfl (Nat.le_of_ble_eq_true rfl) dL_law_481 (fun H_1 locs_1 hH_1 hL_1 => ?_)
  refine lv_icmp_eq (tgt := 1431) C.x C.b dL_law_484 (by decide) (fun q => ?_) (fun q => absurd rfl q)
  exact K H_1 locs_1 ls hH_1 hL_1 (lv_sub hl [0, 1, 2, 3] rfl)
set_option maxRecDepth 20000 in
theorem la_step (C : Cx p m meth c cL_law 4 s #[Value.ref b] R_law room_1 ev D H0 35 11482) (hsc : Sc ev b x3 a) {σ σ1 : Mm} {r : Int32} (c1 : isC σ x1 0 = some ()) (f1 : f_X0_step fu ev σ x1 (a 1) = some (r, σ1)) (K : GG p l e room_1 s m #[Value.ref b] below meth c D H0 ev 4 (lw_Z below #[Value.ref b] s) σ1 498 [(0, .ref b), (1, .ref x1), (2, .ref x2), (3, .int x3)] [.int r]) : GG p l e room_1 s m #[Value.ref b] below meth c D H0 ev 4 (lw_Z below #[Value.ref b] s) σ 489 [(0, .ref b), (1, .ref x1), (2, .ref x2), (3, .int x3)] [] := by
  intro H locs ls hH hL hl
  refine lv_aload_n C.x C.b dL_law_489 rfl (lv_at hl 1 rfl) ?_
  refine lv_aload_n C.x C.b dL_law_490 rfl (lv_at hl 0 rfl) ?_
  refine lv_iload_n C.x C.b dL_law_491 rfl (lv_at hl 3 rfl) ?_
  refine lv_iconst (v := 1) C.x C.b dL_law_492 ki_1 ?_
  refine lv_iadd C.x C.b dL_law_493 ?_
  refine m_iald C hH (hsc.2 _ (hH.2.2.2.2.2.2.2 _ hsc.1)).2.1 dL_law_494 ?_
  refine m_callVI (As := [.int (a 1)]) (rest := []) (v := r) C hH hL cv__law_48 (ct_X0_step l D H0 f1) c1 ⟨Nat.le_of_ble_eq_true rfl, Nat.le_of_ble_eq_true rfl⟩ rfl hl.1 rfl (Nat.le_of_ble_eq_true rfl) dL_law_495 (fun H_1 locs_1 hH_1 hL_1 => ?_)
  exact K H_1 locs_1 ls hH_1 hL_1 (lv_sub hl [0, 1, 2, 3] rfl)
set_option maxRecDepth 20000 in
theorem lb_step (C : Cx p m meth c cL_law 4 s #[Value.ref b] R_law room_1 ev D H0 35 11482) (hsc : Sc ev b x3 a) {σ1 σ2 : Mm} {r : Int32} (c2 : isC σ1 x2 2 = some ()) (f2 : f_X2_step fu ev σ1 x2 (a 1) = some (r, σ2)) (K : GG p l e room_1 s m #[Value.ref b] below meth c D H0 ev 4 (lw_Z below #[Value.ref b] s) σ2 1431 [(0, .ref b), (1, .ref x1), (2, .ref x2), (3, .int x3)] []) : GG p l e room_1 s m #[Value.ref b] below meth c D H0 ev 4 (lw_Z below #[Value.ref b] s) σ1 498 [(0, .ref b), (1, .ref x1), (2, .ref x2), (3, .int x3)] [.int r] := by
  intro H locs ls hH hL hl
  refine lv_aload_n C.x C.b dL_law_498 rfl (lv_at hl 2 rfl) ?_
  refine lv_aload_n C.x C.b dL_law_499 rfl (lv_at hl 0 rfl) ?_
  refine lv_iload_n C.x C.b dL_law_500 rfl (lv_at hl 3 rfl) ?_
  refine lv_iconst (v := 1) C.x C.b dL_law_501 ki_1 ?_
  refine lv_iadd C.x C.b dL_law_502 ?_
  refine m_iald C hH (hsc.2 _ (hH.2.2.2.2.2.2.2 _ hsc.1)).2.1 dL_law_503 ?_
  refine m_callVI (As := [.int (a 1)]) (rest := [.int r]) (v := r) C hH hL cv__law_51 (ct_X2_step l D H0 f2) c2 ⟨Nat.le_of_ble_eq_true rfl, Nat.le_of_ble_eq_true rfl⟩ rfl hl.1 rfl (Nat.le_of_ble_eq_true rfl) dL_law_504 (fun H_1 locs_1 hH_1 hL_1 => ?_)
  refine lv_icmp_eq (tgt := 1431) C.x C.b dL_law_507 (by decide) (fun q => ?_) (fun q => absurd rfl q)
  exact K H_1 locs_1 ls hH_1 hL_1 (lv_sub hl [0, 1, 2, 3] rfl)
set_option maxRecDepth 20000 in
theorem la_reduce (C : Cx p m meth c cL_law 4 s #[Value.ref b] R_law room_1 ev D H0 35 11482) (hsc : Sc ev b x3 a) {σ σ1 : Mm} {r : Int32} (c1 : isC σ x1 0 = some ()) (f1 : f_X0_reduce fu ev σ x1 (a 1) = some (r, σ1)) (K : GG p l e room_1 s m #[Value.ref b] below meth c D H0 ev 4 (lw_Z below #[Value.ref b] s) σ1 521 [(0, .ref b), (1, .ref x1), (2, .ref x2), (3, .int x3)] [.int r]) : GG p l e room_1 s m #[Value.ref b] below meth c D H0 ev 4 (lw_Z below #[Value.ref b] s) σ 512 [(0, .ref b), (1, .ref x1), (2, .ref x2), (3, .int x3)] [] := by
  intro H locs ls hH hL hl
  refine lv_aload_n C.x C.b dL_law_512 rfl (lv_at hl 1 rfl) ?_
  refine lv_aload_n C.x C.b dL_law_513 rfl (lv_at hl 0 rfl) ?_
  refine lv_iload_n C.x C.b dL_law_514 rfl (lv_at hl 3 rfl) ?_
  refine lv_iconst (v := 1) C.x C.b dL_law_515 ki_1 ?_
  refine lv_iadd C.x C.b dL_law_516 ?_
  refine m_iald C hH (hsc.2 _ (hH.2.2.2.2.2.2.2 _ hsc.1)).2.1 dL_law_517 ?_
  refine m_callVI (As := [.int (a 1)]) (rest := []) (v := r) C hH hL cv__law_52 (ct_X0_reduce l D H0 f1) c1 ⟨Nat.le_of_ble_eq_true rfl, Nat.le_of_ble_eq_true rfl⟩ rfl hl.1 rfl (Nat.le_of_ble_eq_true rfl) dL_law_518 (fun H_1 locs_1 hH_1 hL_1 => ?_)
  exact K H_1 locs_1 ls hH_1 hL_1 (lv_sub hl [0, 1, 2, 3] rfl)
set_option maxRecDepth 20000 in
theorem lb_reduce (C : Cx p m meth c cL_law 4 s #[Value.ref b] R_law room_1 ev D H0 35 11482) (hsc : Sc ev b x3 a) {σ1 σ2 : Mm} {r : Int32} (c2 : isC σ1 x2 2 = some ()) (f2 : f_X2_reduce fu ev σ1 x2 (a 1) = some (r, σ2)) (K : GG p l e room_1 s m #[Value.ref b] below meth c D H0 ev 4 (lw_Z below #[Value.ref b] s) σ2 1431 [(0, .ref b), (1, .ref x1), (2, .ref x2), (3, .int x3)] []) : GG p l e room_1 s m #[Value.ref b] below meth c D H0 ev 4 (lw_Z below #[Value.ref b] s) σ1 521 [(0, .ref b), (1, .ref x1), (2, .ref x2), (3, .int x3)] [.int r] := by
  intro H locs ls hH hL hl
  refine lv_aload_n C.x C.b dL_law_521 rfl (lv_at hl 2 rfl) ?_
  refine lv_aload_n C.x C.b dL_law_522 rfl (lv_at hl 0 rfl) ?_
  refine lv_iload_n C.x C.b dL_law_523 rfl (lv_at hl 3 rfl) ?_
  refine lv_iconst (v := 1) C.x C.b dL_law_524 ki_1 ?_
  refine lv_iadd C.x C.b dL_law_525 ?_
  refine m_iald C hH (hsc.2 _ (hH.2.2.2.2.2.2.2 _ hsc.1)).2.1 dL_law_526 ?_
  refine m_callVI (As := [.int (a 1)]) (rest := [.int r]) (v := r) C hH hL cv__law_55 (ct_X2_reduce l D H0 f2) c2 ⟨Nat.le_of_ble_eq_true rfl, Nat.le_of_ble_eq_true rfl⟩ rfl hl.1 rfl (Nat.le_of_ble_eq_true rfl) dL_law_527 (fun H_1 locs_1 hH_1 hL_1 => ?_)
  refine lv_icmp_eq (tgt := 1431) C.x C.b dL_law_530 (by decide) (fun q => ?_) (fun q => absurd rfl q)
  exact K H_1 locs_1 ls hH_1 hL_1 (lv_sub hl [0, 1, 2, 3] rfl)
set_option maxRecDepth 20000 in
theorem la_normal (C : Cx p m meth c cL_law 4 s #[Value.ref b] R_law room_1 ev D H0 35 11482) (hsc : Sc ev b x3 a) {σ σ1 : Mm} {r : Int64} (c1 : isC σ x1 0 = some ()) (f1 : f_X0_normal fu ev σ x1 (a 1) (a 2) = some (r, σ1)) (K : GG p l e room_1 s m #[Value.ref b] below meth c D H0 ev 4 (lw_Z below #[Value.ref b] s) σ1 549 [(0, .ref b), (1, .ref x1), (2, .ref x2), (3, .int x3)] [.long r]) : GG p l e room_1 s m #[Value.ref b] below meth c D H0 ev 4 (lw_Z below #[Value.ref b] s) σ 535 [(0, .ref b), (1, .ref x1), (2, .ref x2), (3, .int x3)] [] := by
  intro H locs ls hH hL hl
  refine lv_aload_n C.x C.b dL_law_535 rfl (lv_at hl 1 rfl) ?_
  refine lv_aload_n C.x C.b dL_law_536 rfl (lv_at hl 0 rfl) ?_
  refine lv_iload_n C.x C.b dL_law_537 rfl (lv_at hl 3 rfl) ?_
  refine lv_iconst (v := 1) C.x C.b dL_law_538 ki_1 ?_
  refine lv_iadd C.x C.b dL_law_539 ?_
  refine m_iald C hH (hsc.2 _ (hH.2.2.2.2.2.2.2 _ hsc.1)).2.1 dL_law_540 ?_
  refine lv_aload_n C.x C.b dL_law_541 rfl (lv_at hl 0 rfl) ?_
  refine lv_iload_n C.x C.b dL_law_542 rfl (lv_at hl 3 rfl) ?_
  refine lv_iconst (v := 2) C.x C.b dL_law_543 ki_2 ?_
  refine lv_iadd C.x C.b dL_law_544 ?_
  refine m_iald C hH (hsc.2 _ (hH.2.2.2.2.2.2.2 _ hsc.1)).2.2.1 dL_law_545 ?_
  refine m_callVJ (As := [.int (a 1), .int (a 2)]) (rest := []) (v := r) C hH hL cv__law_56 (ct_X0_normal l D H0 f1) c1 ⟨Nat.le_of_ble_eq_true rfl, Nat.le_of_ble_eq_true rfl⟩ rfl hl.1 rfl (Nat.le_of_ble_eq_true rfl) dL_law_546 (fun H_1 locs_1 hH_1 hL_1 => ?_)
  exact K H_1 locs_1 ls hH_1 hL_1 (lv_sub hl [0, 1, 2, 3] rfl)
set_option maxRecDepth 20000 in
theorem lb_normal (C : Cx p m meth c cL_law 4 s #[Value.ref b] R_law room_1 ev D H0 35 11482) (hsc : Sc ev b x3 a) {σ1 σ2 : Mm} {r : Int64} (c2 : isC σ1 x2 2 = some ()) (f2 : f_X2_normal fu ev σ1 x2 (a 1) (a 2) = some (r, σ2)) (K : GG p l e room_1 s m #[Value.ref b] below meth c D H0 ev 4 (lw_Z below #[Value.ref b] s) σ2 1431 [(0, .ref b), (1, .ref x1), (2, .ref x2), (3, .int x3)] []) : GG p l e room_1 s m #[Value.ref b] below meth c D H0 ev 4 (lw_Z below #[Value.ref b] s) σ1 549 [(0, .ref b), (1, .ref x1), (2, .ref x2), (3, .int x3)] [.long r] := by
  intro H locs ls hH hL hl
  refine lv_aload_n C.x C.b dL_law_549 rfl (lv_at hl 2 rfl) ?_
  refine lv_aload_n C.x C.b dL_law_550 rfl (lv_at hl 0 rfl) ?_
  refine lv_iload_n C.x C.b dL_law_551 rfl (lv_at hl 3 rfl) ?_
  refine lv_iconst (v := 1) C.x C.b dL_law_552 ki_1 ?_
  refine lv_iadd C.x C.b dL_law_553 ?_
  refine m_iald C hH (hsc.2 _ (hH.2.2.2.2.2.2.2 _ hsc.1)).2.1 dL_law_554 ?_
  refine lv_aload_n C.x C.b dL_law_555 rfl (lv_at hl 0 rfl) ?_
  refine lv_iload_n C.x C.b dL_law_556 rfl (lv_at hl 3 rfl) ?_
  refine lv_iconst (v := 2) C.x C.b dL_law_557 ki_2 ?_
  refine lv_iadd C.x C.b dL_law_558 ?_
  refine m_iald C hH (hsc.2 _ (hH.2.2.2.2.2.2.2 _ hsc.1)).2.2.1 dL_law_559 ?_
  refine m_callVJ (As := [.int (a 1), .int (a 2)]) (rest := [.long r]) (v := r) C hH hL cv__law_59 (ct_X2_normal l D H0 f2) c2 ⟨Nat.le_of_ble_eq_true rfl, Nat.le_of_ble_eq_true rfl⟩ rfl hl.1 rfl (Nat.le_of_ble_eq_true rfl) dL_law_560 (fun H_1 locs_1 hH_1 hL_1 => ?_)
  refine r_lc_eq (tgt := 1431) C.x C.b dL_law_563 dL_law_564 (by decide) (fun q => ?_) (fun q => absurd rfl q)
  exact K H_1 locs_1 ls hH_1 hL_1 (lv_sub hl [0, 1, 2, 3] rfl)
set_option maxRecDepth 20000 in
theorem la_log (C : Cx p m meth c cL_law 4 s #[Value.ref b] R_law room_1 ev D H0 35 11482) (hsc : Sc ev b x3 a) {σ σ1 : Mm} {r : Int32} (c1 : isC σ x1 0 = some ()) (f1 : f_X0_log fu ev σ x1 (a 1) = some (r, σ1)) (K : GG p l e room_1 s m #[Value.ref b] below meth c D H0 ev 4 (lw_Z below #[Value.ref b] s) σ1 578 [(0, .ref b), (1, .ref x1), (2, .ref x2), (3, .int x3)] [.int r]) : GG p l e room_1 s m #[Value.ref b] below meth c D H0 ev 4 (lw_Z below #[Value.ref b] s) σ 569 [(0, .ref b), (1, .ref x1), (2, .ref x2), (3, .int x3)] [] := by
  intro H locs ls hH hL hl
  refine lv_aload_n C.x C.b dL_law_569 rfl (lv_at hl 1 rfl) ?_
  refine lv_aload_n C.x C.b dL_law_570 rfl (lv_at hl 0 rfl) ?_
  refine lv_iload_n C.x C.b dL_law_571 rfl (lv_at hl 3 rfl) ?_
  refine lv_iconst (v := 1) C.x C.b dL_law_572 ki_1 ?_
  refine lv_iadd C.x C.b dL_law_573 ?_
  refine m_iald C hH (hsc.2 _ (hH.2.2.2.2.2.2.2 _ hsc.1)).2.1 dL_law_574 ?_
  refine m_callVI (As := [.int (a 1)]) (rest := []) (v := r) C hH hL cv__law_60 (ct_X0_log l D H0 f1) c1 ⟨Nat.le_of_ble_eq_true rfl, Nat.le_of_ble_eq_true rfl⟩ rfl hl.1 rfl (Nat.le_of_ble_eq_true rfl) dL_law_575 (fun H_1 locs_1 hH_1 hL_1 => ?_)
  exact K H_1 locs_1 ls hH_1 hL_1 (lv_sub hl [0, 1, 2, 3] rfl)
set_option maxRecDepth 20000 in
theorem lb_log (C : Cx p m meth c cL_law 4 s #[Value.ref b] R_law room_1 ev D H0 35 11482) (hsc : Sc ev b x3 a) {σ1 σ2 : Mm} {r : Int32} (c2 : isC σ1 x2 2 = some ()) (f2 : f_X2_log fu ev σ1 x2 (a 1) = some (r, σ2)) (K : GG p l e room_1 s m #[Value.ref b] below meth c D H0 ev 4 (lw_Z below #[Value.ref b] s) σ2 1431 [(0, .ref b), (1, .ref x1), (2, .ref x2), (3, .int x3)] []) : GG p l e room_1 s m #[Value.ref b] below meth c D H0 ev 4 (lw_Z below #[Value.ref b] s) σ1 578 [(0, .ref b), (1, .ref x1), (2, .ref x2), (3, .int x3)] [.int r] := by
  intro H locs ls hH hL hl
  refine lv_aload_n C.x C.b dL_law_578 rfl (lv_at hl 2 rfl) ?_
  refine lv_aload_n C.x C.b dL_law_579 rfl (lv_at hl 0 rfl) ?_
  refine lv_iload_n C.x C.b dL_law_580 rfl (lv_at hl 3 rfl) ?_
  refine lv_iconst (v := 1) C.x C.b dL_law_581 ki_1 ?_
  refine lv_iadd C.x C.b dL_law_582 ?_
  refine m_iald C hH (hsc.2 _ (hH.2.2.2.2.2.2.2 _ hsc.1)).2.1 dL_law_583 ?_
  refine m_callVI (As := [.int (a 1)]) (rest := [.int r]) (v := r) C hH hL cv__law_63 (ct_X2_log l D H0 f2) c2 ⟨Nat.le_of_ble_eq_true rfl, Nat.le_of_ble_eq_true rfl⟩ rfl hl.1 rfl (Nat.le_of_ble_eq_true rfl) dL_law_584 (fun H_1 locs_1 hH_1 hL_1 => ?_)
  refine lv_icmp_eq (tgt := 1431) C.x C.b dL_law_587 (by decide) (fun q => ?_) (fun q => absurd rfl q)
  exact K H_1 locs_1 ls hH_1 hL_1 (lv_sub hl [0, 1, 2, 3] rfl)
set_option maxRecDepth 20000 in
theorem la_forget (C : Cx p m meth c cL_law 4 s #[Value.ref b] R_law room_1 ev D H0 35 11482) (hsc : Sc ev b x3 a) {σ σ1 : Mm} {r : Int32} (c1 : isC σ x1 0 = some ()) (f1 : f_X0_forget fu ev σ x1 (a 1) = some (r, σ1)) (K : GG p l e room_1 s m #[Value.ref b] below meth c D H0 ev 4 (lw_Z below #[Value.ref b] s) σ1 601 [(0, .ref b), (1, .ref x1), (2, .ref x2), (3, .int x3)] [.int r]) : GG p l e room_1 s m #[Value.ref b] below meth c D H0 ev 4 (lw_Z below #[Value.ref b] s) σ 592 [(0, .ref b), (1, .ref x1), (2, .ref x2), (3, .int x3)] [] := by
  intro H locs ls hH hL hl
  refine lv_aload_n C.x C.b dL_law_592 rfl (lv_at hl 1 rfl) ?_
  refine lv_aload_n C.x C.b dL_law_593 rfl (lv_at hl 0 rfl) ?_
  refine lv_iload_n C.x C.b dL_law_594 rfl (lv_at hl 3 rfl) ?_
  refine lv_iconst (v := 1) C.x C.b dL_law_595 ki_1 ?_
  refine lv_iadd C.x C.b dL_law_596 ?_
  refine m_iald C hH (hsc.2 _ (hH.2.2.2.2.2.2.2 _ hsc.1)).2.1 dL_law_597 ?_
  refine m_callVI (As := [.int (a 1)]) (rest := []) (v := r) C hH hL cv__law_64 (ct_X0_forget l D H0 f1) c1 ⟨Nat.le_of_ble_eq_true rfl, Nat.le_of_ble_eq_true rfl⟩ rfl hl.1 rfl (Nat.le_of_ble_eq_true rfl) dL_law_598 (fun H_1 locs_1 hH_1 hL_1 => ?_)
  exact K H_1 locs_1 ls hH_1 hL_1 (lv_sub hl [0, 1, 2, 3] rfl)
set_option maxRecDepth 20000 in
theorem lb_forget (C : Cx p m meth c cL_law 4 s #[Value.ref b] R_law room_1 ev D H0 35 11482) (hsc : Sc ev b x3 a) {σ1 σ2 : Mm} {r : Int32} (c2 : isC σ1 x2 2 = some ()) (f2 : f_X2_forget fu ev σ1 x2 (a 1) = some (r, σ2)) (K : GG p l e room_1 s m #[Value.ref b] below meth c D H0 ev 4 (lw_Z below #[Value.ref b] s) σ2 1431 [(0, .ref b), (1, .ref x1), (2, .ref x2), (3, .int x3)] []) : GG p l e room_1 s m #[Value.ref b] below meth c D H0 ev 4 (lw_Z below #[Value.ref b] s) σ1 601 [(0, .ref b), (1, .ref x1), (2, .ref x2), (3, .int x3)] [.int r] := by
  intro H locs ls hH hL hl
  refine lv_aload_n C.x C.b dL_law_601 rfl (lv_at hl 2 rfl) ?_
  refine lv_aload_n C.x C.b dL_law_602 rfl (lv_at hl 0 rfl) ?_
  refine lv_iload_n C.x C.b dL_law_603 rfl (lv_at hl 3 rfl) ?_
  refine lv_iconst (v := 1) C.x C.b dL_law_604 ki_1 ?_
  refine lv_iadd C.x C.b dL_law_605 ?_
  refine m_iald C hH (hsc.2 _ (hH.2.2.2.2.2.2.2 _ hsc.1)).2.1 dL_law_606 ?_
  refine m_callVI (As := [.int (a 1)]) (rest := [.int r]) (v := r) C hH hL cv__law_67 (ct_X2_forget l D H0 f2) c2 ⟨Nat.le_of_ble_eq_true rfl, Nat.le_of_ble_eq_true rfl⟩ rfl hl.1 rfl (Nat.le_of_ble_eq_true rfl) dL_law_607 (fun H_1 locs_1 hH_1 hL_1 => ?_)
  refine lv_icmp_eq (tgt := 1431) C.x C.b dL_law_610 (by decide) (fun q => ?_) (fun q => absurd rfl q)
  exact K H_1 locs_1 ls hH_1 hL_1 (lv_sub hl [0, 1, 2, 3] rfl)
set_option maxRecDepth 20000 in
theorem la_same (C : Cx p m meth c cL_law 4 s #[Value.ref b] R_law room_1 ev D H0 35 11482) (hsc : Sc ev b x3 a) {σ σ1 : Mm} {r : Int32} (c1 : isC σ x1 0 = some ()) (f1 : f_X0_same fu ev σ x1 (a 1) (a 2) = some (r, σ1)) (K : GG p l e room_1 s m #[Value.ref b] below meth c D H0 ev 4 (lw_Z below #[Value.ref b] s) σ1 629 [(0, .ref b), (1, .ref x1), (2, .ref x2), (3, .int x3)] [.int r]) : GG p l e room_1 s m #[Value.ref b] below meth c D H0 ev 4 (lw_Z below #[Value.ref b] s) σ 615 [(0, .ref b), (1, .ref x1), (2, .ref x2), (3, .int x3)] [] := by
  intro H locs ls hH hL hl
  refine lv_aload_n C.x C.b dL_law_615 rfl (lv_at hl 1 rfl) ?_
  refine lv_aload_n C.x C.b dL_law_616 rfl (lv_at hl 0 rfl) ?_
  refine lv_iload_n C.x C.b dL_law_617 rfl (lv_at hl 3 rfl) ?_
  refine lv_iconst (v := 1) C.x C.b dL_law_618 ki_1 ?_
  refine lv_iadd C.x C.b dL_law_619 ?_
  refine m_iald C hH (hsc.2 _ (hH.2.2.2.2.2.2.2 _ hsc.1)).2.1 dL_law_620 ?_
  refine lv_aload_n C.x C.b dL_law_621 rfl (lv_at hl 0 rfl) ?_
  refine lv_iload_n C.x C.b dL_law_622 rfl (lv_at hl 3 rfl) ?_
  refine lv_iconst (v := 2) C.x C.b dL_law_623 ki_2 ?_
  refine lv_iadd C.x C.b dL_law_624 ?_
  refine m_iald C hH (hsc.2 _ (hH.2.2.2.2.2.2.2 _ hsc.1)).2.2.1 dL_law_625 ?_
  refine m_callVI (As := [.int (a 1), .int (a 2)]) (rest := []) (v := r) C hH hL cv__law_68 (ct_X0_same l D H0 f1) c1 ⟨Nat.le_of_ble_eq_true rfl, Nat.le_of_ble_eq_true rfl⟩ rfl hl.1 rfl (Nat.le_of_ble_eq_true rfl) dL_law_626 (fun H_1 locs_1 hH_1 hL_1 => ?_)
  exact K H_1 locs_1 ls hH_1 hL_1 (lv_sub hl [0, 1, 2, 3] rfl)
set_option maxRecDepth 20000 in
theorem lb_same (C : Cx p m meth c cL_law 4 s #[Value.ref b] R_law room_1 ev D H0 35 11482) (hsc : Sc ev b x3 a) {σ1 σ2 : Mm} {r : Int32} (c2 : isC σ1 x2 2 = some ()) (f2 : f_X2_same fu ev σ1 x2 (a 1) (a 2) = some (r, σ2)) (K : GG p l e room_1 s m #[Value.ref b] below meth c D H0 ev 4 (lw_Z below #[Value.ref b] s) σ2 1431 [(0, .ref b), (1, .ref x1), (2, .ref x2), (3, .int x3)] []) : GG p l e room_1 s m #[Value.ref b] below meth c D H0 ev 4 (lw_Z below #[Value.ref b] s) σ1 629 [(0, .ref b), (1, .ref x1), (2, .ref x2), (3, .int x3)] [.int r] := by
  intro H locs ls hH hL hl
  refine lv_aload_n C.x C.b dL_law_629 rfl (lv_at hl 2 rfl) ?_
  refine lv_aload_n C.x C.b dL_law_630 rfl (lv_at hl 0 rfl) ?_
  refine lv_iload_n C.x C.b dL_law_631 rfl (lv_at hl 3 rfl) ?_
  refine lv_iconst (v := 1) C.x C.b dL_law_632 ki_1 ?_
  refine lv_iadd C.x C.b dL_law_633 ?_
  refine m_iald C hH (hsc.2 _ (hH.2.2.2.2.2.2.2 _ hsc.1)).2.1 dL_law_634 ?_
  refine lv_aload_n C.x C.b dL_law_635 rfl (lv_at hl 0 rfl) ?_
  refine lv_iload_n C.x C.b dL_law_636 rfl (lv_at hl 3 rfl) ?_
  refine lv_iconst (v := 2) C.x C.b dL_law_637 ki_2 ?_
  refine lv_iadd C.x C.b dL_law_638 ?_
  refine m_iald C hH (hsc.2 _ (hH.2.2.2.2.2.2.2 _ hsc.1)).2.2.1 dL_law_639 ?_
  refine m_callVI (As := [.int (a 1), .int (a 2)]) (rest := [.int r]) (v := r) C hH hL cv__law_72 (ct_X2_same l D H0 f2) c2 ⟨Nat.le_of_ble_eq_true rfl, Nat.le_of_ble_eq_true rfl⟩ rfl hl.1 rfl (Nat.le_of_ble_eq_true rfl) dL_law_640 (fun H_1 locs_1 hH_1 hL_1 => ?_)
  refine lv_icmp_eq (tgt := 1431) C.x C.b dL_law_643 (by decide) (fun q => ?_) (fun q => absurd rfl q)
  exact K H_1 locs_1 ls hH_1 hL_1 (lv_sub hl [0, 1, 2, 3] rfl)
set_option maxRecDepth 20000 in
theorem la_bridge (C : Cx p m meth c cL_law 4 s #[Value.ref b] R_law room_1 ev D H0 35 11482) (hsc : Sc ev b x3 a) {σ σ1 : Mm} {r : Int64} (c1 : isC σ x1 0 = some ()) (f1 : f_X0_bridge fu ev σ x1 (a 1) (a 2) (a 3) (a 4) = some (r, σ1)) (K : GG p l e room_1 s m #[Value.ref b] below meth c D H0 ev 4 (lw_Z below #[Value.ref b] s) σ1 672 [(0, .ref b), (1, .ref x1), (2, .ref x2), (3, .int x3)] [.long r]) : GG p l e room_1 s m #[Value.ref b] below meth c D H0 ev 4 (lw_Z below #[Value.ref b] s) σ 648 [(0, .ref b), (1, .ref x1), (2, .ref x2), (3, .int x3)] [] := by
  intro H locs ls hH hL hl
  refine lv_aload_n C.x C.b dL_law_648 rfl (lv_at hl 1 rfl) ?_
  refine lv_aload_n C.x C.b dL_law_649 rfl (lv_at hl 0 rfl) ?_
  refine lv_iload_n C.x C.b dL_law_650 rfl (lv_at hl 3 rfl) ?_
  refine lv_iconst (v := 1) C.x C.b dL_law_651 ki_1 ?_
  refine lv_iadd C.x C.b dL_law_652 ?_
  refine m_iald C hH (hsc.2 _ (hH.2.2.2.2.2.2.2 _ hsc.1)).2.1 dL_law_653 ?_
  refine lv_aload_n C.x C.b dL_law_654 rfl (lv_at hl 0 rfl) ?_
  refine lv_iload_n C.x C.b dL_law_655 rfl (lv_at hl 3 rfl) ?_
  refine lv_iconst (v := 2) C.x C.b dL_law_656 ki_2 ?_
  refine lv_iadd C.x C.b dL_law_657 ?_
  refine m_iald C hH (hsc.2 _ (hH.2.2.2.2.2.2.2 _ hsc.1)).2.2.1 dL_law_658 ?_
  refine lv_aload_n C.x C.b dL_law_659 rfl (lv_at hl 0 rfl) ?_
  refine lv_iload_n C.x C.b dL_law_660 rfl (lv_at hl 3 rfl) ?_
  refine lv_iconst (v := 3) C.x C.b dL_law_661 ki_3 ?_
  refine lv_iadd C.x C.b dL_law_662 ?_
  refine m_iald C hH (hsc.2 _ (hH.2.2.2.2.2.2.2 _ hsc.1)).2.2.2.1 dL_law_663 ?_
  refine lv_aload_n C.x C.b dL_law_664 rfl (lv_at hl 0 rfl) ?_
  refine lv_iload_n C.x C.b dL_law_665 rfl (lv_at hl 3 rfl) ?_
  refine lv_iconst (v := 4) C.x C.b dL_law_666 ki_4 ?_
  refine lv_iadd C.x C.b dL_law_667 ?_
  refine m_iald C hH (hsc.2 _ (hH.2.2.2.2.2.2.2 _ hsc.1)).2.2.2.2.1 dL_law_668 ?_
  refine m_callVJ (As := [.int (a 1), .int (a 2), .int (a 3), .int (a 4)]) (rest := []) (v := r) C hH hL cv__law_73 (ct_X0_bridge l D H0 f1) c1 ⟨Nat.le_of_ble_eq_true rfl, Nat.le_of_ble_eq_true rfl⟩ rfl hl.1 rfl (Nat.le_of_ble_eq_true rfl) dL_law_669 (fun H_1 locs_1 hH_1 hL_1 => ?_)
  exact K H_1 locs_1 ls hH_1 hL_1 (lv_sub hl [0, 1, 2, 3] rfl)
set_option maxRecDepth 20000 in
theorem lb_bridge (C : Cx p m meth c cL_law 4 s #[Value.ref b] R_law room_1 ev D H0 35 11482) (hsc : Sc ev b x3 a) {σ1 σ2 : Mm} {r : Int64} (c2 : isC σ1 x2 2 = some ()) (f2 : f_X2_bridge fu ev σ1 x2 (a 1) (a 2) (a 3) (a 4) = some (r, σ2)) (K : GG p l e room_1 s m #[Value.ref b] below meth c D H0 ev 4 (lw_Z below #[Value.ref b] s) σ2 1431 [(0, .ref b), (1, .ref x1), (2, .ref x2), (3, .int x3)] []) : GG p l e room_1 s m #[Value.ref b] below meth c D H0 ev 4 (lw_Z below #[Value.ref b] s) σ1 672 [(0, .ref b), (1, .ref x1), (2, .ref x2), (3, .int x3)] [.long r] := by
  intro H locs ls hH hL hl
  refine lv_aload_n C.x C.b dL_law_672 rfl (lv_at hl 2 rfl) ?_
  refine lv_aload_n C.x C.b dL_law_673 rfl (lv_at hl 0 rfl) ?_
  refine lv_iload_n C.x C.b dL_law_674 rfl (lv_at hl 3 rfl) ?_
  refine lv_iconst (v := 1) C.x C.b dL_law_675 ki_1 ?_
  refine lv_iadd C.x C.b dL_law_676 ?_
  refine m_iald C hH (hsc.2 _ (hH.2.2.2.2.2.2.2 _ hsc.1)).2.1 dL_law_677 ?_
  refine lv_aload_n C.x C.b dL_law_678 rfl (lv_at hl 0 rfl) ?_
  refine lv_iload_n C.x C.b dL_law_679 rfl (lv_at hl 3 rfl) ?_
  refine lv_iconst (v := 2) C.x C.b dL_law_680 ki_2 ?_
  refine lv_iadd C.x C.b dL_law_681 ?_
  refine m_iald C hH (hsc.2 _ (hH.2.2.2.2.2.2.2 _ hsc.1)).2.2.1 dL_law_682 ?_
  refine lv_aload_n C.x C.b dL_law_683 rfl (lv_at hl 0 rfl) ?_
  refine lv_iload_n C.x C.b dL_law_684 rfl (lv_at hl 3 rfl) ?_
  refine lv_iconst (v := 3) C.x C.b dL_law_685 ki_3 ?_
  refine lv_iadd C.x C.b dL_law_686 ?_
  refine m_iald C hH (hsc.2 _ (hH.2.2.2.2.2.2.2 _ hsc.1)).2.2.2.1 dL_law_687 ?_
  refine lv_aload_n C.x C.b dL_law_688 rfl (lv_at hl 0 rfl) ?_
  refine lv_iload_n C.x C.b dL_law_689 rfl (lv_at hl 3 rfl) ?_
  refine lv_iconst (v := 4) C.x C.b dL_law_690 ki_4 ?_
  refine lv_iadd C.x C.b dL_law_691 ?_
  refine m_iald C hH (hsc.2 _ (hH.2.2.2.2.2.2.2 _ hsc.1)).2.2.2.2.1 dL_law_692 ?_
  refine m_callVJ (As := [.int (a 1), .int (a 2), .int (a 3), .int (a 4)]) (rest := [.long r]) (v := r) C hH hL cv__law_77 (ct_X2_bridge l D H0 f2) c2 ⟨Nat.le_of_ble_eq_true rfl, Nat.le_of_ble_eq_true rfl⟩ rfl hl.1 rfl (Nat.le_of_ble_eq_true rfl) dL_law_693 (fun H_1 locs_1 hH_1 hL_1 => ?_)
  refine r_lc_eq (tgt := 1431) C.x C.b dL_law_696 dL_law_697 (by decide) (fun q => ?_) (fun q => absurd rfl q)
  exact K H_1 locs_1 ls hH_1 hL_1 (lv_sub hl [0, 1, 2, 3] rfl)
set_option maxRecDepth 20000 in
theorem la_turns (C : Cx p m meth c cL_law 4 s #[Value.ref b] R_law room_1 ev D H0 35 11482) (hsc : Sc ev b x3 a) {σ σ1 : Mm} {r : Int32} (c1 : isC σ x1 0 = some ()) (f1 : f_X0_turns fu ev σ x1 (a 1) (a 2) = some (r, σ1)) (K : GG p l e room_1 s m #[Value.ref b] below meth c D H0 ev 4 (lw_Z below #[Value.ref b] s) σ1 716 [(0, .ref b), (1, .ref x1), (2, .ref x2), (3, .int x3)] [.int r]) : GG p l e room_1 s m #[Value.ref b] below meth c D H0 ev 4 (lw_Z below #[Value.ref b] s) σ 702 [(0, .ref b), (1, .ref x1), (2, .ref x2), (3, .int x3)] [] := by
  intro H locs ls hH hL hl
  refine lv_aload_n C.x C.b dL_law_702 rfl (lv_at hl 1 rfl) ?_
  refine lv_aload_n C.x C.b dL_law_703 rfl (lv_at hl 0 rfl) ?_
  refine lv_iload_n C.x C.b dL_law_704 rfl (lv_at hl 3 rfl) ?_
  refine lv_iconst (v := 1) C.x C.b dL_law_705 ki_1 ?_
  refine lv_iadd C.x C.b dL_law_706 ?_
  refine m_iald C hH (hsc.2 _ (hH.2.2.2.2.2.2.2 _ hsc.1)).2.1 dL_law_707 ?_
  refine lv_aload_n C.x C.b dL_law_708 rfl (lv_at hl 0 rfl) ?_
  refine lv_iload_n C.x C.b dL_law_709 rfl (lv_at hl 3 rfl) ?_
  refine lv_iconst (v := 2) C.x C.b dL_law_710 ki_2 ?_
  refine lv_iadd C.x C.b dL_law_711 ?_
  refine m_iald C hH (hsc.2 _ (hH.2.2.2.2.2.2.2 _ hsc.1)).2.2.1 dL_law_712 ?_
  refine m_callVI (As := [.int (a 1), .int (a 2)]) (rest := []) (v := r) C hH hL cv__law_78 (ct_X0_turns l D H0 f1) c1 ⟨Nat.le_of_ble_eq_true rfl, Nat.le_of_ble_eq_true rfl⟩ rfl hl.1 rfl (Nat.le_of_ble_eq_true rfl) dL_law_713 (fun H_1 locs_1 hH_1 hL_1 => ?_)
  exact K H_1 locs_1 ls hH_1 hL_1 (lv_sub hl [0, 1, 2, 3] rfl)
set_option maxRecDepth 20000 in
theorem lb_turns (C : Cx p m meth c cL_law 4 s #[Value.ref b] R_law room_1 ev D H0 35 11482) (hsc : Sc ev b x3 a) {σ1 σ2 : Mm} {r : Int32} (c2 : isC σ1 x2 2 = some ()) (f2 : f_X2_turns fu ev σ1 x2 (a 1) (a 2) = some (r, σ2)) (K : GG p l e room_1 s m #[Value.ref b] below meth c D H0 ev 4 (lw_Z below #[Value.ref b] s) σ2 1431 [(0, .ref b), (1, .ref x1), (2, .ref x2), (3, .int x3)] []) : GG p l e room_1 s m #[Value.ref b] below meth c D H0 ev 4 (lw_Z below #[Value.ref b] s) σ1 716 [(0, .ref b), (1, .ref x1), (2, .ref x2), (3, .int x3)] [.int r] := by
  intro H locs ls hH hL hl
  refine lv_aload_n C.x C.b dL_law_716 rfl (lv_at hl 2 rfl) ?_
  refine lv_aload_n C.x C.b dL_law_717 rfl (lv_at hl 0 rfl) ?_
  refine lv_iload_n C.x C.b dL_law_718 rfl (lv_at hl 3 rfl) ?_
  refine lv_iconst (v := 1) C.x C.b dL_law_719 ki_1 ?_
  refine lv_iadd C.x C.b dL_law_720 ?_
  refine m_iald C hH (hsc.2 _ (hH.2.2.2.2.2.2.2 _ hsc.1)).2.1 dL_law_721 ?_
  refine lv_aload_n C.x C.b dL_law_722 rfl (lv_at hl 0 rfl) ?_
  refine lv_iload_n C.x C.b dL_law_723 rfl (lv_at hl 3 rfl) ?_
  refine lv_iconst (v := 2) C.x C.b dL_law_724 ki_2 ?_
  refine lv_iadd C.x C.b dL_law_725 ?_
  refine m_iald C hH (hsc.2 _ (hH.2.2.2.2.2.2.2 _ hsc.1)).2.2.1 dL_law_726 ?_
  refine m_callVI (As := [.int (a 1), .int (a 2)]) (rest := [.int r]) (v := r) C hH hL cv__law_81 (ct_X2_turns l D H0 f2) c2 ⟨Nat.le_of_ble_eq_true rfl, Nat.le_of_ble_eq_true rfl⟩ rfl hl.1 rfl (Nat.le_of_ble_eq_true rfl) dL_law_727 (fun H_1 locs_1 hH_1 hL_1 => ?_)
  refine lv_icmp_eq (tgt := 1431) C.x C.b dL_law_730 (by decide) (fun q => ?_) (fun q => absurd rfl q)
  exact K H_1 locs_1 ls hH_1 hL_1 (lv_sub hl [0, 1, 2, 3] rfl)
set_option maxRecDepth 20000 in
theorem la_system (C : Cx p m meth c cL_law 4 s #[Value.ref b] R_law room_1 ev D H0 35 11482) (hsc : Sc ev b x3 a) {σ σ1 : Mm} {r : Int32} (c1 : isC σ x1 0 = some ()) (f1 : f_X0_system fu ev σ x1 (a 1) = some (r, σ1)) (K : GG p l e room_1 s m #[Value.ref b] below meth c D H0 ev 4 (lw_Z below #[Value.ref b] s) σ1 744 [(0, .ref b), (1, .ref x1), (2, .ref x2), (3, .int x3)] [.int r]) : GG p l e room_1 s m #[Value.ref b] below meth c D H0 ev 4 (lw_Z below #[Value.ref b] s) σ 735 [(0, .ref b), (1, .ref x1), (2, .ref x2), (3, .int x3)] [] := by
  intro H locs ls hH hL hl
  refine lv_aload_n C.x C.b dL_law_735 rfl (lv_at hl 1 rfl) ?_
  refine lv_aload_n C.x C.b dL_law_736 rfl (lv_at hl 0 rfl) ?_
  refine lv_iload_n C.x C.b dL_law_737 rfl (lv_at hl 3 rfl) ?_
  refine lv_iconst (v := 1) C.x C.b dL_law_738 ki_1 ?_
  refine lv_iadd C.x C.b dL_law_739 ?_
  refine m_iald C hH (hsc.2 _ (hH.2.2.2.2.2.2.2 _ hsc.1)).2.1 dL_law_740 ?_
  refine m_callVI (As := [.int (a 1)]) (rest := []) (v := r) C hH hL cv__law_82 (ct_X0_system l D H0 f1) c1 ⟨Nat.le_of_ble_eq_true rfl, Nat.le_of_ble_eq_true rfl⟩ rfl hl.1 rfl (Nat.le_of_ble_eq_true rfl) dL_law_741 (fun H_1 locs_1 hH_1 hL_1 => ?_)
  exact K H_1 locs_1 ls hH_1 hL_1 (lv_sub hl [0, 1, 2, 3] rfl)
set_option maxRecDepth 20000 in
theorem lb_system (C : Cx p m meth c cL_law 4 s #[Value.ref b] R_law room_1 ev D H0 35 11482) (hsc : Sc ev b x3 a) {σ1 σ2 : Mm} {r : Int32} (c2 : isC σ1 x2 2 = some ()) (f2 : f_X2_system fu ev σ1 x2 (a 1) = some (r, σ2)) (K : GG p l e room_1 s m #[Value.ref b] below meth c D H0 ev 4 (lw_Z below #[Value.ref b] s) σ2 1431 [(0, .ref b), (1, .ref x1), (2, .ref x2), (3, .int x3)] []) : GG p l e room_1 s m #[Value.ref b] below meth c D H0 ev 4 (lw_Z below #[Value.ref b] s) σ1 744 [(0, .ref b), (1, .ref x1), (2, .ref x2), (3, .int x3)] [.int r] := by
  intro H locs ls hH hL hl
  refine lv_aload_n C.x C.b dL_law_744 rfl (lv_at hl 2 rfl) ?_
  refine lv_aload_n C.x C.b dL_law_745 rfl (lv_at hl 0 rfl) ?_
  refine lv_iload_n C.x C.b dL_law_746 rfl (lv_at hl 3 rfl) ?_
  refine lv_iconst (v := 1) C.x C.b dL_law_747 ki_1 ?_
  refine lv_iadd C.x C.b dL_law_748 ?_
  refine m_iald C hH (hsc.2 _ (hH.2.2.2.2.2.2.2 _ hsc.1)).2.1 dL_law_749 ?_
  refine m_callVI (As := [.int (a 1)]) (rest := [.int r]) (v := r) C hH hL cv__law_85 (ct_X2_system l D H0 f2) c2 ⟨Nat.le_of_ble_eq_true rfl, Nat.le_of_ble_eq_true rfl⟩ rfl hl.1 rfl (Nat.le_of_ble_eq_true rfl) dL_law_750 (fun H_1 locs_1 hH_1 hL_1 => ?_)
  refine lv_icmp_eq (tgt := 1431) C.x C.b dL_law_753 (by decide) (fun q => ?_) (fun q => absurd rfl q)
  exact K H_1 locs_1 ls hH_1 hL_1 (lv_sub hl [0, 1, 2, 3] rfl)
set_option maxRecDepth 20000 in
theorem la_shell (C : Cx p m meth c cL_law 4 s #[Value.ref b] R_law room_1 ev D H0 35 11482) (hsc : Sc ev b x3 a) {σ σ1 : Mm} {r : Int32} (c1 : isC σ x1 0 = some ()) (f1 : f_X0_shell fu ev σ x1 (a 1) (a 2) (a 3) = some (r, σ1)) (K : GG p l e room_1 s m #[Value.ref b] below meth c D H0 ev 4 (lw_Z below #[Value.ref b] s) σ1 777 [(0, .ref b), (1, .ref x1), (2, .ref x2), (3, .int x3)] [.int r]) : GG p l e room_1 s m #[Value.ref b] below meth c D H0 ev 4 (lw_Z below #[Value.ref b] s) σ 758 [(0, .ref b), (1, .ref x1), (2, .ref x2), (3, .int x3)] [] := by
  intro H locs ls hH hL hl
  refine lv_aload_n C.x C.b dL_law_758 rfl (lv_at hl 1 rfl) ?_
  refine lv_aload_n C.x C.b dL_law_759 rfl (lv_at hl 0 rfl) ?_
  refine lv_iload_n C.x C.b dL_law_760 rfl (lv_at hl 3 rfl) ?_
  refine lv_iconst (v := 1) C.x C.b dL_law_761 ki_1 ?_
  refine lv_iadd C.x C.b dL_law_762 ?_
  refine m_iald C hH (hsc.2 _ (hH.2.2.2.2.2.2.2 _ hsc.1)).2.1 dL_law_763 ?_
  refine lv_aload_n C.x C.b dL_law_764 rfl (lv_at hl 0 rfl) ?_
  refine lv_iload_n C.x C.b dL_law_765 rfl (lv_at hl 3 rfl) ?_
  refine lv_iconst (v := 2) C.x C.b dL_law_766 ki_2 ?_
  refine lv_iadd C.x C.b dL_law_767 ?_
  refine m_iald C hH (hsc.2 _ (hH.2.2.2.2.2.2.2 _ hsc.1)).2.2.1 dL_law_768 ?_
  refine lv_aload_n C.x C.b dL_law_769 rfl (lv_at hl 0 rfl) ?_
  refine lv_iload_n C.x C.b dL_law_770 rfl (lv_at hl 3 rfl) ?_
  refine lv_iconst (v := 3) C.x C.b dL_law_771 ki_3 ?_
  refine lv_iadd C.x C.b dL_law_772 ?_
  refine m_iald C hH (hsc.2 _ (hH.2.2.2.2.2.2.2 _ hsc.1)).2.2.2.1 dL_law_773 ?_
  refine m_callVI (As := [.int (a 1), .int (a 2), .int (a 3)]) (rest := []) (v := r) C hH hL cv__law_86 (ct_X0_shell l D H0 f1) c1 ⟨Nat.le_of_ble_eq_true rfl, Nat.le_of_ble_eq_true rfl⟩ rfl hl.1 rfl (Nat.le_of_ble_eq_true rfl) dL_law_774 (fun H_1 locs_1 hH_1 hL_1 => ?_)
  exact K H_1 locs_1 ls hH_1 hL_1 (lv_sub hl [0, 1, 2, 3] rfl)
set_option maxRecDepth 20000 in
theorem lb_shell (C : Cx p m meth c cL_law 4 s #[Value.ref b] R_law room_1 ev D H0 35 11482) (hsc : Sc ev b x3 a) {σ1 σ2 : Mm} {r : Int32} (c2 : isC σ1 x2 2 = some ()) (f2 : f_X2_shell fu ev σ1 x2 (a 1) (a 2) (a 3) = some (r, σ2)) (K : GG p l e room_1 s m #[Value.ref b] below meth c D H0 ev 4 (lw_Z below #[Value.ref b] s) σ2 1431 [(0, .ref b), (1, .ref x1), (2, .ref x2), (3, .int x3)] []) : GG p l e room_1 s m #[Value.ref b] below meth c D H0 ev 4 (lw_Z below #[Value.ref b] s) σ1 777 [(0, .ref b), (1, .ref x1), (2, .ref x2), (3, .int x3)] [.int r] := by
  intro H locs ls hH hL hl
  refine lv_aload_n C.x C.b dL_law_777 rfl (lv_at hl 2 rfl) ?_
  refine lv_aload_n C.x C.b dL_law_778 rfl (lv_at hl 0 rfl) ?_
  refine lv_iload_n C.x C.b dL_law_779 rfl (lv_at hl 3 rfl) ?_
  refine lv_iconst (v := 1) C.x C.b dL_law_780 ki_1 ?_
  refine lv_iadd C.x C.b dL_law_781 ?_
  refine m_iald C hH (hsc.2 _ (hH.2.2.2.2.2.2.2 _ hsc.1)).2.1 dL_law_782 ?_
  refine lv_aload_n C.x C.b dL_law_783 rfl (lv_at hl 0 rfl) ?_
  refine lv_iload_n C.x C.b dL_law_784 rfl (lv_at hl 3 rfl) ?_
  refine lv_iconst (v := 2) C.x C.b dL_law_785 ki_2 ?_
  refine lv_iadd C.x C.b dL_law_786 ?_
  refine m_iald C hH (hsc.2 _ (hH.2.2.2.2.2.2.2 _ hsc.1)).2.2.1 dL_law_787 ?_
  refine lv_aload_n C.x C.b dL_law_788 rfl (lv_at hl 0 rfl) ?_
  refine lv_iload_n C.x C.b dL_law_789 rfl (lv_at hl 3 rfl) ?_
  refine lv_iconst (v := 3) C.x C.b dL_law_790 ki_3 ?_
  refine lv_iadd C.x C.b dL_law_791 ?_
  refine m_iald C hH (hsc.2 _ (hH.2.2.2.2.2.2.2 _ hsc.1)).2.2.2.1 dL_law_792 ?_
  refine m_callVI (As := [.int (a 1), .int (a 2), .int (a 3)]) (rest := [.int r]) (v := r) C hH hL cv__law_89 (ct_X2_shell l D H0 f2) c2 ⟨Nat.le_of_ble_eq_true rfl, Nat.le_of_ble_eq_true rfl⟩ rfl hl.1 rfl (Nat.le_of_ble_eq_true rfl) dL_law_793 (fun H_1 locs_1 hH_1 hL_1 => ?_)
  refine lv_icmp_eq (tgt := 1431) C.x C.b dL_law_796 (by decide) (fun q => ?_) (fun q => absurd rfl q)
  exact K H_1 locs_1 ls hH_1 hL_1 (lv_sub hl [0, 1, 2, 3] rfl)
set_option maxRecDepth 20000 in
theorem la_squares (C : Cx p m meth c cL_law 4 s #[Value.ref b] R_law room_1 ev D H0 35 11482) (hsc : Sc ev b x3 a) {σ σ1 : Mm} {r : Int64} (c1 : isC σ x1 0 = some ()) (f1 : f_X0_squares fu ev σ x1 (a 1) = some (r, σ1)) (K : GG p l e room_1 s m #[Value.ref b] below meth c D H0 ev 4 (lw_Z below #[Value.ref b] s) σ1 810 [(0, .ref b), (1, .ref x1), (2, .ref x2), (3, .int x3)] [.long r]) : GG p l e room_1 s m #[Value.ref b] below meth c D H0 ev 4 (lw_Z below #[Value.ref b] s) σ 801 [(0, .ref b), (1, .ref x1), (2, .ref x2), (3, .int x3)] [] := by
  intro H locs ls hH hL hl
  refine lv_aload_n C.x C.b dL_law_801 rfl (lv_at hl 1 rfl) ?_
  refine lv_aload_n C.x C.b dL_law_802 rfl (lv_at hl 0 rfl) ?_
  refine lv_iload_n C.x C.b dL_law_803 rfl (lv_at hl 3 rfl) ?_
  refine lv_iconst (v := 1) C.x C.b dL_law_804 ki_1 ?_
  refine lv_iadd C.x C.b dL_law_805 ?_
  refine m_iald C hH (hsc.2 _ (hH.2.2.2.2.2.2.2 _ hsc.1)).2.1 dL_law_806 ?_
  refine m_callVJ (As := [.int (a 1)]) (rest := []) (v := r) C hH hL cv__law_90 (ct_X0_squares l D H0 f1) c1 ⟨Nat.le_of_ble_eq_true rfl, Nat.le_of_ble_eq_true rfl⟩ rfl hl.1 rfl (Nat.le_of_ble_eq_true rfl) dL_law_807 (fun H_1 locs_1 hH_1 hL_1 => ?_)
  exact K H_1 locs_1 ls hH_1 hL_1 (lv_sub hl [0, 1, 2, 3] rfl)
set_option maxRecDepth 20000 in
theorem lb_squares (C : Cx p m meth c cL_law 4 s #[Value.ref b] R_law room_1 ev D H0 35 11482) (hsc : Sc ev b x3 a) {σ1 σ2 : Mm} {r : Int64} (c2 : isC σ1 x2 2 = some ()) (f2 : f_X2_squares fu ev σ1 x2 (a 1) = some (r, σ2)) (K : GG p l e room_1 s m #[Value.ref b] below meth c D H0 ev 4 (lw_Z below #[Value.ref b] s) σ2 1431 [(0, .ref b), (1, .ref x1), (2, .ref x2), (3, .int x3)] []) : GG p l e room_1 s m #[Value.ref b] below meth c D H0 ev 4 (lw_Z below #[Value.ref b] s) σ1 810 [(0, .ref b), (1, .ref x1), (2, .ref x2), (3, .int x3)] [.long r] := by
  intro H locs ls hH hL hl
  refine lv_aload_n C.x C.b dL_law_810 rfl (lv_at hl 2 rfl) ?_
  refine lv_aload_n C.x C.b dL_law_811 rfl (lv_at hl 0 rfl) ?_
  refine lv_iload_n C.x C.b dL_law_812 rfl (lv_at hl 3 rfl) ?_
  refine lv_iconst (v := 1) C.x C.b dL_law_813 ki_1 ?_
  refine lv_iadd C.x C.b dL_law_814 ?_
  refine m_iald C hH (hsc.2 _ (hH.2.2.2.2.2.2.2 _ hsc.1)).2.1 dL_law_815 ?_
  refine m_callVJ (As := [.int (a 1)]) (rest := [.long r]) (v := r) C hH hL cv__law_94 (ct_X2_squares l D H0 f2) c2 ⟨Nat.le_of_ble_eq_true rfl, Nat.le_of_ble_eq_true rfl⟩ rfl hl.1 rfl (Nat.le_of_ble_eq_true rfl) dL_law_816 (fun H_1 locs_1 hH_1 hL_1 => ?_)
  refine r_lc_eq (tgt := 1431) C.x C.b dL_law_819 dL_law_820 (by decide) (fun q => ?_) (fun q => absurd rfl q)
  exact K H_1 locs_1 ls hH_1 hL_1 (lv_sub hl [0, 1, 2, 3] rfl)
set_option maxRecDepth 20000 in
theorem la_within (C : Cx p m meth c cL_law 4 s #[Value.ref b] R_law room_1 ev D H0 35 11482) (hsc : Sc ev b x3 a) {σ σ1 : Mm} {r : Int64} (c1 : isC σ x1 0 = some ()) (f1 : f_X0_within fu ev σ x1 (a 1) (a 2) (a 3) = some (r, σ1)) (K : GG p l e room_1 s m #[Value.ref b] below meth c D H0 ev 4 (lw_Z below #[Value.ref b] s) σ1 844 [(0, .ref b), (1, .ref x1), (2, .ref x2), (3, .int x3)] [.long r]) : GG p l e room_1 s m #[Value.ref b] below meth c D H0 ev 4 (lw_Z below #[Value.ref b] s) σ 825 [(0, .ref b), (1, .ref x1), (2, .ref x2), (3, .int x3)] [] := by
  intro H locs ls hH hL hl
  refine lv_aload_n C.x C.b dL_law_825 rfl (lv_at hl 1 rfl) ?_
  refine lv_aload_n C.x C.b dL_law_826 rfl (lv_at hl 0 rfl) ?_
  refine lv_iload_n C.x C.b dL_law_827 rfl (lv_at hl 3 rfl) ?_
  refine lv_iconst (v := 1) C.x C.b dL_law_828 ki_1 ?_
  refine lv_iadd C.x C.b dL_law_829 ?_
  refine m_iald C hH (hsc.2 _ (hH.2.2.2.2.2.2.2 _ hsc.1)).2.1 dL_law_830 ?_
  refine lv_aload_n C.x C.b dL_law_831 rfl (lv_at hl 0 rfl) ?_
  refine lv_iload_n C.x C.b dL_law_832 rfl (lv_at hl 3 rfl) ?_
  refine lv_iconst (v := 2) C.x C.b dL_law_833 ki_2 ?_
  refine lv_iadd C.x C.b dL_law_834 ?_
  refine m_iald C hH (hsc.2 _ (hH.2.2.2.2.2.2.2 _ hsc.1)).2.2.1 dL_law_835 ?_
  refine lv_aload_n C.x C.b dL_law_836 rfl (lv_at hl 0 rfl) ?_
  refine lv_iload_n C.x C.b dL_law_837 rfl (lv_at hl 3 rfl) ?_
  refine lv_iconst (v := 3) C.x C.b dL_law_838 ki_3 ?_
  refine lv_iadd C.x C.b dL_law_839 ?_
  refine m_iald C hH (hsc.2 _ (hH.2.2.2.2.2.2.2 _ hsc.1)).2.2.2.1 dL_law_840 ?_
  refine m_callVJ (As := [.int (a 1), .int (a 2), .int (a 3)]) (rest := []) (v := r) C hH hL cv__law_95 (ct_X0_within l D H0 f1) c1 ⟨Nat.le_of_ble_eq_true rfl, Nat.le_of_ble_eq_true rfl⟩ rfl hl.1 rfl (Nat.le_of_ble_eq_true rfl) dL_law_841 (fun H_1 locs_1 hH_1 hL_1 => ?_)
  exact K H_1 locs_1 ls hH_1 hL_1 (lv_sub hl [0, 1, 2, 3] rfl)
set_option maxRecDepth 20000 in
theorem lb_within (C : Cx p m meth c cL_law 4 s #[Value.ref b] R_law room_1 ev D H0 35 11482) (hsc : Sc ev b x3 a) {σ1 σ2 : Mm} {r : Int64} (c2 : isC σ1 x2 2 = some ()) (f2 : f_X2_within fu ev σ1 x2 (a 1) (a 2) (a 3) = some (r, σ2)) (K : GG p l e room_1 s m #[Value.ref b] below meth c D H0 ev 4 (lw_Z below #[Value.ref b] s) σ2 1431 [(0, .ref b), (1, .ref x1), (2, .ref x2), (3, .int x3)] []) : GG p l e room_1 s m #[Value.ref b] below meth c D H0 ev 4 (lw_Z below #[Value.ref b] s) σ1 844 [(0, .ref b), (1, .ref x1), (2, .ref x2), (3, .int x3)] [.long r] := by
  intro H locs ls hH hL hl
  refine lv_aload_n C.x C.b dL_law_844 rfl (lv_at hl 2 rfl) ?_
  refine lv_aload_n C.x C.b dL_law_845 rfl (lv_at hl 0 rfl) ?_
  refine lv_iload_n C.x C.b dL_law_846 rfl (lv_at hl 3 rfl) ?_
  refine lv_iconst (v := 1) C.x C.b dL_law_847 ki_1 ?_
  refine lv_iadd C.x C.b dL_law_848 ?_
  refine m_iald C hH (hsc.2 _ (hH.2.2.2.2.2.2.2 _ hsc.1)).2.1 dL_law_849 ?_
  refine lv_aload_n C.x C.b dL_law_850 rfl (lv_at hl 0 rfl) ?_
  refine lv_iload_n C.x C.b dL_law_851 rfl (lv_at hl 3 rfl) ?_
  refine lv_iconst (v := 2) C.x C.b dL_law_852 ki_2 ?_
  refine lv_iadd C.x C.b dL_law_853 ?_
  refine m_iald C hH (hsc.2 _ (hH.2.2.2.2.2.2.2 _ hsc.1)).2.2.1 dL_law_854 ?_
  refine lv_aload_n C.x C.b dL_law_855 rfl (lv_at hl 0 rfl) ?_
  refine lv_iload_n C.x C.b dL_law_856 rfl (lv_at hl 3 rfl) ?_
  refine lv_iconst (v := 3) C.x C.b dL_law_857 ki_3 ?_
  refine lv_iadd C.x C.b dL_law_858 ?_
  refine m_iald C hH (hsc.2 _ (hH.2.2.2.2.2.2.2 _ hsc.1)).2.2.2.1 dL_law_859 ?_
  refine m_callVJ (As := [.int (a 1), .int (a 2), .int (a 3)]) (rest := [.long r]) (v := r) C hH hL cv__law_98 (ct_X2_within l D H0 f2) c2 ⟨Nat.le_of_ble_eq_true rfl, Nat.le_of_ble_eq_true rfl⟩ rfl hl.1 rfl (Nat.le_of_ble_eq_true rfl) dL_law_860 (fun H_1 locs_1 hH_1 hL_1 => ?_)
  refine r_lc_eq (tgt := 1431) C.x C.b dL_law_863 dL_law_864 (by decide) (fun q => ?_) (fun q => absurd rfl q)
  exact K H_1 locs_1 ls hH_1 hL_1 (lv_sub hl [0, 1, 2, 3] rfl)
set_option maxRecDepth 20000 in
theorem la_holds (C : Cx p m meth c cL_law 4 s #[Value.ref b] R_law room_1 ev D H0 35 11482) (hsc : Sc ev b x3 a) {σ σ1 : Mm} {r : Int32} (c1 : isC σ x1 0 = some ()) (f1 : f_X0_holds fu ev σ x1 (a 1) (a 2) (a 3) = some (r, σ1)) (K : GG p l e room_1 s m #[Value.ref b] below meth c D H0 ev 4 (lw_Z below #[Value.ref b] s) σ1 888 [(0, .ref b), (1, .ref x1), (2, .ref x2), (3, .int x3)] [.int r]) : GG p l e room_1 s m #[Value.ref b] below meth c D H0 ev 4 (lw_Z below #[Value.ref b] s) σ 869 [(0, .ref b), (1, .ref x1), (2, .ref x2), (3, .int x3)] [] := by
  intro H locs ls hH hL hl
  refine lv_aload_n C.x C.b dL_law_869 rfl (lv_at hl 1 rfl) ?_
  refine lv_aload_n C.x C.b dL_law_870 rfl (lv_at hl 0 rfl) ?_
  refine lv_iload_n C.x C.b dL_law_871 rfl (lv_at hl 3 rfl) ?_
  refine lv_iconst (v := 1) C.x C.b dL_law_872 ki_1 ?_
  refine lv_iadd C.x C.b dL_law_873 ?_
  refine m_iald C hH (hsc.2 _ (hH.2.2.2.2.2.2.2 _ hsc.1)).2.1 dL_law_874 ?_
  refine lv_aload_n C.x C.b dL_law_875 rfl (lv_at hl 0 rfl) ?_
  refine lv_iload_n C.x C.b dL_law_876 rfl (lv_at hl 3 rfl) ?_
  refine lv_iconst (v := 2) C.x C.b dL_law_877 ki_2 ?_
  refine lv_iadd C.x C.b dL_law_878 ?_
  refine m_iald C hH (hsc.2 _ (hH.2.2.2.2.2.2.2 _ hsc.1)).2.2.1 dL_law_879 ?_
  refine lv_aload_n C.x C.b dL_law_880 rfl (lv_at hl 0 rfl) ?_
  refine lv_iload_n C.x C.b dL_law_881 rfl (lv_at hl 3 rfl) ?_
  refine lv_iconst (v := 3) C.x C.b dL_law_882 ki_3 ?_
  refine lv_iadd C.x C.b dL_law_883 ?_
  refine m_iald C hH (hsc.2 _ (hH.2.2.2.2.2.2.2 _ hsc.1)).2.2.2.1 dL_law_884 ?_
  refine m_callVI (As := [.int (a 1), .int (a 2), .int (a 3)]) (rest := []) (v := r) C hH hL cv__law_99 (ct_X0_holds l D H0 f1) c1 ⟨Nat.le_of_ble_eq_true rfl, Nat.le_of_ble_eq_true rfl⟩ rfl hl.1 rfl (Nat.le_of_ble_eq_true rfl) dL_law_885 (fun H_1 locs_1 hH_1 hL_1 => ?_)
  exact K H_1 locs_1 ls hH_1 hL_1 (lv_sub hl [0, 1, 2, 3] rfl)
set_option maxRecDepth 20000 in
theorem lb_holds (C : Cx p m meth c cL_law 4 s #[Value.ref b] R_law room_1 ev D H0 35 11482) (hsc : Sc ev b x3 a) {σ1 σ2 : Mm} {r : Int32} (c2 : isC σ1 x2 2 = some ()) (f2 : f_X2_holds fu ev σ1 x2 (a 1) (a 2) (a 3) = some (r, σ2)) (K : GG p l e room_1 s m #[Value.ref b] below meth c D H0 ev 4 (lw_Z below #[Value.ref b] s) σ2 1431 [(0, .ref b), (1, .ref x1), (2, .ref x2), (3, .int x3)] []) : GG p l e room_1 s m #[Value.ref b] below meth c D H0 ev 4 (lw_Z below #[Value.ref b] s) σ1 888 [(0, .ref b), (1, .ref x1), (2, .ref x2), (3, .int x3)] [.int r] := by
  intro H locs ls hH hL hl
  refine lv_aload_n C.x C.b dL_law_888 rfl (lv_at hl 2 rfl) ?_
  refine lv_aload_n C.x C.b dL_law_889 rfl (lv_at hl 0 rfl) ?_
  refine lv_iload_n C.x C.b dL_law_890 rfl (lv_at hl 3 rfl) ?_
  refine lv_iconst (v := 1) C.x C.b dL_law_891 ki_1 ?_
  refine lv_iadd C.x C.b dL_law_892 ?_
  refine m_iald C hH (hsc.2 _ (hH.2.2.2.2.2.2.2 _ hsc.1)).2.1 dL_law_893 ?_
  refine lv_aload_n C.x C.b dL_law_894 rfl (lv_at hl 0 rfl) ?_
  refine lv_iload_n C.x C.b dL_law_895 rfl (lv_at hl 3 rfl) ?_
  refine lv_iconst (v := 2) C.x C.b dL_law_896 ki_2 ?_
  refine lv_iadd C.x C.b dL_law_897 ?_
  refine m_iald C hH (hsc.2 _ (hH.2.2.2.2.2.2.2 _ hsc.1)).2.2.1 dL_law_898 ?_
  refine lv_aload_n C.x C.b dL_law_899 rfl (lv_at hl 0 rfl) ?_
  refine lv_iload_n C.x C.b dL_law_900 rfl (lv_at hl 3 rfl) ?_
  refine lv_iconst (v := 3) C.x C.b dL_law_901 ki_3 ?_
  refine lv_iadd C.x C.b dL_law_902 ?_
  refine m_iald C hH (hsc.2 _ (hH.2.2.2.2.2.2.2 _ hsc.1)).2.2.2.1 dL_law_903 ?_
  refine m_callVI (As := [.int (a 1), .int (a 2), .int (a 3)]) (rest := [.int r]) (v := r) C hH hL cv__law_102 (ct_X2_holds l D H0 f2) c2 ⟨Nat.le_of_ble_eq_true rfl, Nat.le_of_ble_eq_true rfl⟩ rfl hl.1 rfl (Nat.le_of_ble_eq_true rfl) dL_law_904 (fun H_1 locs_1 hH_1 hL_1 => ?_)
  refine lv_icmp_eq (tgt := 1431) C.x C.b dL_law_907 (by decide) (fun q => ?_) (fun q => absurd rfl q)
  exact K H_1 locs_1 ls hH_1 hL_1 (lv_sub hl [0, 1, 2, 3] rfl)
set_option maxRecDepth 20000 in
theorem la_blunt (C : Cx p m meth c cL_law 4 s #[Value.ref b] R_law room_1 ev D H0 35 11482) (hsc : Sc ev b x3 a) {σ σ1 : Mm} {r : Int64} (c1 : isC σ x1 0 = some ()) (f1 : f_X0_blunt fu ev σ x1 (a 1) (a 2) = some (r, σ1)) (K : GG p l e room_1 s m #[Value.ref b] below meth c D H0 ev 4 (lw_Z below #[Value.ref b] s) σ1 926 [(0, .ref b), (1, .ref x1), (2, .ref x2), (3, .int x3)] [.long r]) : GG p l e room_1 s m #[Value.ref b] below meth c D H0 ev 4 (lw_Z below #[Value.ref b] s) σ 912 [(0, .ref b), (1, .ref x1), (2, .ref x2), (3, .int x3)] [] := by
  intro H locs ls hH hL hl
  refine lv_aload_n C.x C.b dL_law_912 rfl (lv_at hl 1 rfl) ?_
  refine lv_aload_n C.x C.b dL_law_913 rfl (lv_at hl 0 rfl) ?_
  refine lv_iload_n C.x C.b dL_law_914 rfl (lv_at hl 3 rfl) ?_
  refine lv_iconst (v := 1) C.x C.b dL_law_915 ki_1 ?_
  refine lv_iadd C.x C.b dL_law_916 ?_
  refine m_iald C hH (hsc.2 _ (hH.2.2.2.2.2.2.2 _ hsc.1)).2.1 dL_law_917 ?_
  refine lv_aload_n C.x C.b dL_law_918 rfl (lv_at hl 0 rfl) ?_
  refine lv_iload_n C.x C.b dL_law_919 rfl (lv_at hl 3 rfl) ?_
  refine lv_iconst (v := 2) C.x C.b dL_law_920 ki_2 ?_
  refine lv_iadd C.x C.b dL_law_921 ?_
  refine m_iald C hH (hsc.2 _ (hH.2.2.2.2.2.2.2 _ hsc.1)).2.2.1 dL_law_922 ?_
  refine m_callVJ (As := [.int (a 1), .int (a 2)]) (rest := []) (v := r) C hH hL cv__law_103 (ct_X0_blunt l D H0 f1) c1 ⟨Nat.le_of_ble_eq_true rfl, Nat.le_of_ble_eq_true rfl⟩ rfl hl.1 rfl (Nat.le_of_ble_eq_true rfl) dL_law_923 (fun H_1 locs_1 hH_1 hL_1 => ?_)
  exact K H_1 locs_1 ls hH_1 hL_1 (lv_sub hl [0, 1, 2, 3] rfl)
set_option maxRecDepth 20000 in
theorem lb_blunt (C : Cx p m meth c cL_law 4 s #[Value.ref b] R_law room_1 ev D H0 35 11482) (hsc : Sc ev b x3 a) {σ1 σ2 : Mm} {r : Int64} (c2 : isC σ1 x2 2 = some ()) (f2 : f_X2_blunt fu ev σ1 x2 (a 1) (a 2) = some (r, σ2)) (K : GG p l e room_1 s m #[Value.ref b] below meth c D H0 ev 4 (lw_Z below #[Value.ref b] s) σ2 1431 [(0, .ref b), (1, .ref x1), (2, .ref x2), (3, .int x3)] []) : GG p l e room_1 s m #[Value.ref b] below meth c D H0 ev 4 (lw_Z below #[Value.ref b] s) σ1 926 [(0, .ref b), (1, .ref x1), (2, .ref x2), (3, .int x3)] [.long r] := by
  intro H locs ls hH hL hl
  refine lv_aload_n C.x C.b dL_law_926 rfl (lv_at hl 2 rfl) ?_
  refine lv_aload_n C.x C.b dL_law_927 rfl (lv_at hl 0 rfl) ?_
  refine lv_iload_n C.x C.b dL_law_928 rfl (lv_at hl 3 rfl) ?_
  refine lv_iconst (v := 1) C.x C.b dL_law_929 ki_1 ?_
  refine lv_iadd C.x C.b dL_law_930 ?_
  refine m_iald C hH (hsc.2 _ (hH.2.2.2.2.2.2.2 _ hsc.1)).2.1 dL_law_931 ?_
  refine lv_aload_n C.x C.b dL_law_932 rfl (lv_at hl 0 rfl) ?_
  refine lv_iload_n C.x C.b dL_law_933 rfl (lv_at hl 3 rfl) ?_
  refine lv_iconst (v := 2) C.x C.b dL_law_934 ki_2 ?_
  refine lv_iadd C.x C.b dL_law_935 ?_
  refine m_iald C hH (hsc.2 _ (hH.2.2.2.2.2.2.2 _ hsc.1)).2.2.1 dL_law_936 ?_
  refine m_callVJ (As := [.int (a 1), .int (a 2)]) (rest := [.long r]) (v := r) C hH hL cv__law_106 (ct_X2_blunt l D H0 f2) c2 ⟨Nat.le_of_ble_eq_true rfl, Nat.le_of_ble_eq_true rfl⟩ rfl hl.1 rfl (Nat.le_of_ble_eq_true rfl) dL_law_937 (fun H_1 locs_1 hH_1 hL_1 => ?_)
  refine r_lc_eq (tgt := 1431) C.x C.b dL_law_940 dL_law_941 (by decide) (fun q => ?_) (fun q => absurd rfl q)
  exact K H_1 locs_1 ls hH_1 hL_1 (lv_sub hl [0, 1, 2, 3] rfl)
set_option maxRecDepth 20000 in
theorem la_waits (C : Cx p m meth c cL_law 4 s #[Value.ref b] R_law room_1 ev D H0 35 11482) (hsc : Sc ev b x3 a) {σ σ1 : Mm} {r : Int32} (c1 : isC σ x1 0 = some ()) (f1 : f_X0_waits fu ev σ x1 (a 1) = some (r, σ1)) (K : GG p l e room_1 s m #[Value.ref b] below meth c D H0 ev 4 (lw_Z below #[Value.ref b] s) σ1 955 [(0, .ref b), (1, .ref x1), (2, .ref x2), (3, .int x3)] [.int r]) : GG p l e room_1 s m #[Value.ref b] below meth c D H0 ev 4 (lw_Z below #[Value.ref b] s) σ 946 [(0, .ref b), (1, .ref x1), (2, .ref x2), (3, .int x3)] [] := by
  intro H locs ls hH hL hl
  refine lv_aload_n C.x C.b dL_law_946 rfl (lv_at hl 1 rfl) ?_
  refine lv_aload_n C.x C.b dL_law_947 rfl (lv_at hl 0 rfl) ?_
  refine lv_iload_n C.x C.b dL_law_948 rfl (lv_at hl 3 rfl) ?_
  refine lv_iconst (v := 1) C.x C.b dL_law_949 ki_1 ?_
  refine lv_iadd C.x C.b dL_law_950 ?_
  refine m_iald C hH (hsc.2 _ (hH.2.2.2.2.2.2.2 _ hsc.1)).2.1 dL_law_951 ?_
  refine m_callVI (As := [.int (a 1)]) (rest := []) (v := r) C hH hL cv__law_107 (ct_X0_waits l D H0 f1) c1 ⟨Nat.le_of_ble_eq_true rfl, Nat.le_of_ble_eq_true rfl⟩ rfl hl.1 rfl (Nat.le_of_ble_eq_true rfl) dL_law_952 (fun H_1 locs_1 hH_1 hL_1 => ?_)
  exact K H_1 locs_1 ls hH_1 hL_1 (lv_sub hl [0, 1, 2, 3] rfl)
set_option maxRecDepth 20000 in
theorem lb_waits (C : Cx p m meth c cL_law 4 s #[Value.ref b] R_law room_1 ev D H0 35 11482) (hsc : Sc ev b x3 a) {σ1 σ2 : Mm} {r : Int32} (c2 : isC σ1 x2 2 = some ()) (f2 : f_X2_waits fu ev σ1 x2 (a 1) = some (r, σ2)) (K : GG p l e room_1 s m #[Value.ref b] below meth c D H0 ev 4 (lw_Z below #[Value.ref b] s) σ2 1431 [(0, .ref b), (1, .ref x1), (2, .ref x2), (3, .int x3)] []) : GG p l e room_1 s m #[Value.ref b] below meth c D H0 ev 4 (lw_Z below #[Value.ref b] s) σ1 955 [(0, .ref b), (1, .ref x1), (2, .ref x2), (3, .int x3)] [.int r] := by
  intro H locs ls hH hL hl
  refine lv_aload_n C.x C.b dL_law_955 rfl (lv_at hl 2 rfl) ?_
  refine lv_aload_n C.x C.b dL_law_956 rfl (lv_at hl 0 rfl) ?_
  refine lv_iload_n C.x C.b dL_law_957 rfl (lv_at hl 3 rfl) ?_
  refine lv_iconst (v := 1) C.x C.b dL_law_958 ki_1 ?_
  refine lv_iadd C.x C.b dL_law_959 ?_
  refine m_iald C hH (hsc.2 _ (hH.2.2.2.2.2.2.2 _ hsc.1)).2.1 dL_law_960 ?_
  refine m_callVI (As := [.int (a 1)]) (rest := [.int r]) (v := r) C hH hL cv__law_110 (ct_X2_waits l D H0 f2) c2 ⟨Nat.le_of_ble_eq_true rfl, Nat.le_of_ble_eq_true rfl⟩ rfl hl.1 rfl (Nat.le_of_ble_eq_true rfl) dL_law_961 (fun H_1 locs_1 hH_1 hL_1 => ?_)
  refine lv_icmp_eq (tgt := 1431) C.x C.b dL_law_964 (by decide) (fun q => ?_) (fun q => absurd rfl q)
  exact K H_1 locs_1 ls hH_1 hL_1 (lv_sub hl [0, 1, 2, 3] rfl)
set_option maxRecDepth 20000 in
theorem la_leaves (C : Cx p m meth c cL_law 4 s #[Value.ref b] R_law room_1 ev D H0 35 11482) (hsc : Sc ev b x3 a) {σ σ1 : Mm} {r : Int32} (c1 : isC σ x1 0 = some ()) (f1 : f_X0_leaves fu ev σ x1 (a 1) = some (r, σ1)) (K : GG p l e room_1 s m #[Value.ref b] below meth c D H0 ev 4 (lw_Z below #[Value.ref b] s) σ1 978 [(0, .ref b), (1, .ref x1), (2, .ref x2), (3, .int x3)] [.int r]) : GG p l e room_1 s m #[Value.ref b] below meth c D H0 ev 4 (lw_Z below #[Value.ref b] s) σ 969 [(0, .ref b), (1, .ref x1), (2, .ref x2), (3, .int x3)] [] := by
  intro H locs ls hH hL hl
  refine lv_aload_n C.x C.b dL_law_969 rfl (lv_at hl 1 rfl) ?_
  refine lv_aload_n C.x C.b dL_law_970 rfl (lv_at hl 0 rfl) ?_
  refine lv_iload_n C.x C.b dL_law_971 rfl (lv_at hl 3 rfl) ?_
  refine lv_iconst (v := 1) C.x C.b dL_law_972 ki_1 ?_
  refine lv_iadd C.x C.b dL_law_973 ?_
  refine m_iald C hH (hsc.2 _ (hH.2.2.2.2.2.2.2 _ hsc.1)).2.1 dL_law_974 ?_
  refine m_callVI (As := [.int (a 1)]) (rest := []) (v := r) C hH hL cv__law_111 (ct_X0_leaves l D H0 f1) c1 ⟨Nat.le_of_ble_eq_true rfl, Nat.le_of_ble_eq_true rfl⟩ rfl hl.1 rfl (Nat.le_of_ble_eq_true rfl) dL_law_975 (fun H_1 locs_1 hH_1 hL_1 => ?_)
  exact K H_1 locs_1 ls hH_1 hL_1 (lv_sub hl [0, 1, 2, 3] rfl)
set_option maxRecDepth 20000 in
theorem lb_leaves (C : Cx p m meth c cL_law 4 s #[Value.ref b] R_law room_1 ev D H0 35 11482) (hsc : Sc ev b x3 a) {σ1 σ2 : Mm} {r : Int32} (c2 : isC σ1 x2 2 = some ()) (f2 : f_X2_leaves fu ev σ1 x2 (a 1) = some (r, σ2)) (K : GG p l e room_1 s m #[Value.ref b] below meth c D H0 ev 4 (lw_Z below #[Value.ref b] s) σ2 1431 [(0, .ref b), (1, .ref x1), (2, .ref x2), (3, .int x3)] []) : GG p l e room_1 s m #[Value.ref b] below meth c D H0 ev 4 (lw_Z below #[Value.ref b] s) σ1 978 [(0, .ref b), (1, .ref x1), (2, .ref x2), (3, .int x3)] [.int r] := by
  intro H locs ls hH hL hl
  refine lv_aload_n C.x C.b dL_law_978 rfl (lv_at hl 2 rfl) ?_
  refine lv_aload_n C.x C.b dL_law_979 rfl (lv_at hl 0 rfl) ?_
  refine lv_iload_n C.x C.b dL_law_980 rfl (lv_at hl 3 rfl) ?_
  refine lv_iconst (v := 1) C.x C.b dL_law_981 ki_1 ?_
  refine lv_iadd C.x C.b dL_law_982 ?_
  refine m_iald C hH (hsc.2 _ (hH.2.2.2.2.2.2.2 _ hsc.1)).2.1 dL_law_983 ?_
  refine m_callVI (As := [.int (a 1)]) (rest := [.int r]) (v := r) C hH hL cv__law_114 (ct_X2_leaves l D H0 f2) c2 ⟨Nat.le_of_ble_eq_true rfl, Nat.le_of_ble_eq_true rfl⟩ rfl hl.1 rfl (Nat.le_of_ble_eq_true rfl) dL_law_984 (fun H_1 locs_1 hH_1 hL_1 => ?_)
  refine lv_icmp_eq (tgt := 1431) C.x C.b dL_law_987 (by decide) (fun q => ?_) (fun q => absurd rfl q)
  exact K H_1 locs_1 ls hH_1 hL_1 (lv_sub hl [0, 1, 2, 3] rfl)
set_option maxRecDepth 20000 in
theorem la_works (C : Cx p m meth c cL_law 4 s #[Value.ref b] R_law room_1 ev D H0 35 11482) (hsc : Sc ev b x3 a) {σ σ1 : Mm} {r : Int32} (c1 : isC σ x1 0 = some ()) (f1 : f_X0_works fu ev σ x1 (a 1) = some (r, σ1)) (K : GG p l e room_1 s m #[Value.ref b] below meth c D H0 ev 4 (lw_Z below #[Value.ref b] s) σ1 1001 [(0, .ref b), (1, .ref x1), (2, .ref x2), (3, .int x3)] [.int r]) : GG p l e room_1 s m #[Value.ref b] below meth c D H0 ev 4 (lw_Z below #[Value.ref b] s) σ 992 [(0, .ref b), (1, .ref x1), (2, .ref x2), (3, .int x3)] [] := by
  intro H locs ls hH hL hl
  refine lv_aload_n C.x C.b dL_law_992 rfl (lv_at hl 1 rfl) ?_
  refine lv_aload_n C.x C.b dL_law_993 rfl (lv_at hl 0 rfl) ?_
  refine lv_iload_n C.x C.b dL_law_994 rfl (lv_at hl 3 rfl) ?_
  refine lv_iconst (v := 1) C.x C.b dL_law_995 ki_1 ?_
  refine lv_iadd C.x C.b dL_law_996 ?_
  refine m_iald C hH (hsc.2 _ (hH.2.2.2.2.2.2.2 _ hsc.1)).2.1 dL_law_997 ?_
  refine m_callVI (As := [.int (a 1)]) (rest := []) (v := r) C hH hL cv__law_115 (ct_X0_works l D H0 f1) c1 ⟨Nat.le_of_ble_eq_true rfl, Nat.le_of_ble_eq_true rfl⟩ rfl hl.1 rfl (Nat.le_of_ble_eq_true rfl) dL_law_998 (fun H_1 locs_1 hH_1 hL_1 => ?_)
  exact K H_1 locs_1 ls hH_1 hL_1 (lv_sub hl [0, 1, 2, 3] rfl)
set_option maxRecDepth 20000 in
theorem lb_works (C : Cx p m meth c cL_law 4 s #[Value.ref b] R_law room_1 ev D H0 35 11482) (hsc : Sc ev b x3 a) {σ1 σ2 : Mm} {r : Int32} (c2 : isC σ1 x2 2 = some ()) (f2 : f_X2_works fu ev σ1 x2 (a 1) = some (r, σ2)) (K : GG p l e room_1 s m #[Value.ref b] below meth c D H0 ev 4 (lw_Z below #[Value.ref b] s) σ2 1431 [(0, .ref b), (1, .ref x1), (2, .ref x2), (3, .int x3)] []) : GG p l e room_1 s m #[Value.ref b] below meth c D H0 ev 4 (lw_Z below #[Value.ref b] s) σ1 1001 [(0, .ref b), (1, .ref x1), (2, .ref x2), (3, .int x3)] [.int r] := by
  intro H locs ls hH hL hl
  refine lv_aload_n C.x C.b dL_law_1001 rfl (lv_at hl 2 rfl) ?_
  refine lv_aload_n C.x C.b dL_law_1002 rfl (lv_at hl 0 rfl) ?_
  refine lv_iload_n C.x C.b dL_law_1003 rfl (lv_at hl 3 rfl) ?_
  refine lv_iconst (v := 1) C.x C.b dL_law_1004 ki_1 ?_
  refine lv_iadd C.x C.b dL_law_1005 ?_
  refine m_iald C hH (hsc.2 _ (hH.2.2.2.2.2.2.2 _ hsc.1)).2.1 dL_law_1006 ?_
  refine m_callVI (As := [.int (a 1)]) (rest := [.int r]) (v := r) C hH hL cv__law_118 (ct_X2_works l D H0 f2) c2 ⟨Nat.le_of_ble_eq_true rfl, Nat.le_of_ble_eq_true rfl⟩ rfl hl.1 rfl (Nat.le_of_ble_eq_true rfl) dL_law_1007 (fun H_1 locs_1 hH_1 hL_1 => ?_)
  refine lv_icmp_eq (tgt := 1431) C.x C.b dL_law_1010 (by decide) (fun q => ?_) (fun q => absurd rfl q)
  exact K H_1 locs_1 ls hH_1 hL_1 (lv_sub hl [0, 1, 2, 3] rfl)
set_option maxRecDepth 20000 in
theorem la_line (C : Cx p m meth c cL_law 4 s #[Value.ref b] R_law room_1 ev D H0 35 11482) (hsc : Sc ev b x3 a) {σ σ1 : Mm} {r : Int32} (c1 : isC σ x1 0 = some ()) (f1 : f_X0_line fu ev σ x1 (a 1) = some (r, σ1)) (K : GG p l e room_1 s m #[Value.ref b] below meth c D H0 ev 4 (lw_Z below #[Value.ref b] s) σ1 1024 [(0, .ref b), (1, .ref x1), (2, .ref x2), (3, .int x3)] [.int r]) : GG p l e room_1 s m #[Value.ref b] below meth c D H0 ev 4 (lw_Z below #[Value.ref b] s) σ 1015 [(0, .ref b), (1, .ref x1), (2, .ref x2), (3, .int x3)] [] := by
  intro H locs ls hH hL hl
  refine lv_aload_n C.x C.b dL_law_1015 rfl (lv_at hl 1 rfl) ?_
  refine lv_aload_n C.x C.b dL_law_1016 rfl (lv_at hl 0 rfl) ?_
  refine lv_iload_n C.x C.b dL_law_1017 rfl (lv_at hl 3 rfl) ?_
  refine lv_iconst (v := 1) C.x C.b dL_law_1018 ki_1 ?_
  refine lv_iadd C.x C.b dL_law_1019 ?_
  refine m_iald C hH (hsc.2 _ (hH.2.2.2.2.2.2.2 _ hsc.1)).2.1 dL_law_1020 ?_
  refine m_callVI (As := [.int (a 1)]) (rest := []) (v := r) C hH hL cv__law_119 (ct_X0_line l D H0 f1) c1 ⟨Nat.le_of_ble_eq_true rfl, Nat.le_of_ble_eq_true rfl⟩ rfl hl.1 rfl (Nat.le_of_ble_eq_true rfl) dL_law_1021 (fun H_1 locs_1 hH_1 hL_1 => ?_)
  exact K H_1 locs_1 ls hH_1 hL_1 (lv_sub hl [0, 1, 2, 3] rfl)
set_option maxRecDepth 20000 in
theorem lb_line (C : Cx p m meth c cL_law 4 s #[Value.ref b] R_law room_1 ev D H0 35 11482) (hsc : Sc ev b x3 a) {σ1 σ2 : Mm} {r : Int32} (c2 : isC σ1 x2 2 = some ()) (f2 : f_X2_line fu ev σ1 x2 (a 1) = some (r, σ2)) (K : GG p l e room_1 s m #[Value.ref b] below meth c D H0 ev 4 (lw_Z below #[Value.ref b] s) σ2 1431 [(0, .ref b), (1, .ref x1), (2, .ref x2), (3, .int x3)] []) : GG p l e room_1 s m #[Value.ref b] below meth c D H0 ev 4 (lw_Z below #[Value.ref b] s) σ1 1024 [(0, .ref b), (1, .ref x1), (2, .ref x2), (3, .int x3)] [.int r] := by
  intro H locs ls hH hL hl
  refine lv_aload_n C.x C.b dL_law_1024 rfl (lv_at hl 2 rfl) ?_
  refine lv_aload_n C.x C.b dL_law_1025 rfl (lv_at hl 0 rfl) ?_
  refine lv_iload_n C.x C.b dL_law_1026 rfl (lv_at hl 3 rfl) ?_
  refine lv_iconst (v := 1) C.x C.b dL_law_1027 ki_1 ?_
  refine lv_iadd C.x C.b dL_law_1028 ?_
  refine m_iald C hH (hsc.2 _ (hH.2.2.2.2.2.2.2 _ hsc.1)).2.1 dL_law_1029 ?_
  refine m_callVI (As := [.int (a 1)]) (rest := [.int r]) (v := r) C hH hL cv__law_122 (ct_X2_line l D H0 f2) c2 ⟨Nat.le_of_ble_eq_true rfl, Nat.le_of_ble_eq_true rfl⟩ rfl hl.1 rfl (Nat.le_of_ble_eq_true rfl) dL_law_1030 (fun H_1 locs_1 hH_1 hL_1 => ?_)
  refine lv_icmp_eq (tgt := 1431) C.x C.b dL_law_1033 (by decide) (fun q => ?_) (fun q => absurd rfl q)
  exact K H_1 locs_1 ls hH_1 hL_1 (lv_sub hl [0, 1, 2, 3] rfl)
set_option maxRecDepth 20000 in
theorem la_clears (C : Cx p m meth c cL_law 4 s #[Value.ref b] R_law room_1 ev D H0 35 11482) (hsc : Sc ev b x3 a) {σ σ1 : Mm} {r : Int32} (c1 : isC σ x1 0 = some ()) (f1 : f_X0_clears fu ev σ x1  = some (r, σ1)) (K : GG p l e room_1 s m #[Value.ref b] below meth c D H0 ev 4 (lw_Z below #[Value.ref b] s) σ1 1042 [(0, .ref b), (1, .ref x1), (2, .ref x2), (3, .int x3)] [.int r]) : GG p l e room_1 s m #[Value.ref b] below meth c D H0 ev 4 (lw_Z below #[Value.ref b] s) σ 1038 [(0, .ref b), (1, .ref x1), (2, .ref x2), (3, .int x3)] [] := by
  intro H locs ls hH hL hl
  refine lv_aload_n C.x C.b dL_law_1038 rfl (lv_at hl 1 rfl) ?_
  refine m_callVI (As := []) (rest := []) (v := r) C hH hL cv__law_123 (ct_X0_clears l D H0 f1) c1 ⟨Nat.le_of_ble_eq_true rfl, Nat.le_of_ble_eq_true rfl⟩ rfl hl.1 rfl (Nat.le_of_ble_eq_true rfl) dL_law_1039 (fun H_1 locs_1 hH_1 hL_1 => ?_)
  exact K H_1 locs_1 ls hH_1 hL_1 (lv_sub hl [0, 1, 2, 3] rfl)
set_option maxRecDepth 20000 in
theorem lb_clears (C : Cx p m meth c cL_law 4 s #[Value.ref b] R_law room_1 ev D H0 35 11482) (hsc : Sc ev b x3 a) {σ1 σ2 : Mm} {r : Int32} (c2 : isC σ1 x2 2 = some ()) (f2 : f_X2_clears fu ev σ1 x2  = some (r, σ2)) (K : GG p l e room_1 s m #[Value.ref b] below meth c D H0 ev 4 (lw_Z below #[Value.ref b] s) σ2 1431 [(0, .ref b), (1, .ref x1), (2, .ref x2), (3, .int x3)] []) : GG p l e room_1 s m #[Value.ref b] below meth c D H0 ev 4 (lw_Z below #[Value.ref b] s) σ1 1042 [(0, .ref b), (1, .ref x1), (2, .ref x2), (3, .int x3)] [.int r] := by
  intro H locs ls hH hL hl
  refine lv_aload_n C.x C.b dL_law_1042 rfl (lv_at hl 2 rfl) ?_
  refine m_callVI (As := []) (rest := [.int r]) (v := r) C hH hL cv__law_126 (ct_X2_clears l D H0 f2) c2 ⟨Nat.le_of_ble_eq_true rfl, Nat.le_of_ble_eq_true rfl⟩ rfl hl.1 rfl (Nat.le_of_ble_eq_true rfl) dL_law_1043 (fun H_1 locs_1 hH_1 hL_1 => ?_)
  refine lv_icmp_eq (tgt := 1431) C.x C.b dL_law_1046 (by decide) (fun q => ?_) (fun q => absurd rfl q)
  exact K H_1 locs_1 ls hH_1 hL_1 (lv_sub hl [0, 1, 2, 3] rfl)
set_option maxRecDepth 20000 in
theorem la_feed (C : Cx p m meth c cL_law 4 s #[Value.ref b] R_law room_1 ev D H0 35 11482) (hsc : Sc ev b x3 a) {σ σ1 : Mm} {r : Int32} (c1 : isC σ x1 0 = some ()) (f1 : f_X0_feed fu ev σ x1 (a 1) = some (r, σ1)) (K : GG p l e room_1 s m #[Value.ref b] below meth c D H0 ev 4 (lw_Z below #[Value.ref b] s) σ1 1060 [(0, .ref b), (1, .ref x1), (2, .ref x2), (3, .int x3)] [.int r]) : GG p l e room_1 s m #[Value.ref b] below meth c D H0 ev 4 (lw_Z below #[Value.ref b] s) σ 1051 [(0, .ref b), (1, .ref x1), (2, .ref x2), (3, .int x3)] [] := by
  intro H locs ls hH hL hl
  refine lv_aload_n C.x C.b dL_law_1051 rfl (lv_at hl 1 rfl) ?_
  refine lv_aload_n C.x C.b dL_law_1052 rfl (lv_at hl 0 rfl) ?_
  refine lv_iload_n C.x C.b dL_law_1053 rfl (lv_at hl 3 rfl) ?_
  refine lv_iconst (v := 1) C.x C.b dL_law_1054 ki_1 ?_
  refine lv_iadd C.x C.b dL_law_1055 ?_
  refine m_iald C hH (hsc.2 _ (hH.2.2.2.2.2.2.2 _ hsc.1)).2.1 dL_law_1056 ?_
  refine m_callVI (As := [.int (a 1)]) (rest := []) (v := r) C hH hL cv__law_127 (ct_X0_feed l D H0 f1) c1 ⟨Nat.le_of_ble_eq_true rfl, Nat.le_of_ble_eq_true rfl⟩ rfl hl.1 rfl (Nat.le_of_ble_eq_true rfl) dL_law_1057 (fun H_1 locs_1 hH_1 hL_1 => ?_)
  exact K H_1 locs_1 ls hH_1 hL_1 (lv_sub hl [0, 1, 2, 3] rfl)
set_option maxRecDepth 20000 in
theorem lb_feed (C : Cx p m meth c cL_law 4 s #[Value.ref b] R_law room_1 ev D H0 35 11482) (hsc : Sc ev b x3 a) {σ1 σ2 : Mm} {r : Int32} (c2 : isC σ1 x2 2 = some ()) (f2 : f_X2_feed fu ev σ1 x2 (a 1) = some (r, σ2)) (K : GG p l e room_1 s m #[Value.ref b] below meth c D H0 ev 4 (lw_Z below #[Value.ref b] s) σ2 1431 [(0, .ref b), (1, .ref x1), (2, .ref x2), (3, .int x3)] []) : GG p l e room_1 s m #[Value.ref b] below meth c D H0 ev 4 (lw_Z below #[Value.ref b] s) σ1 1060 [(0, .ref b), (1, .ref x1), (2, .ref x2), (3, .int x3)] [.int r] := by
  intro H locs ls hH hL hl
  refine lv_aload_n C.x C.b dL_law_1060 rfl (lv_at hl 2 rfl) ?_
  refine lv_aload_n C.x C.b dL_law_1061 rfl (lv_at hl 0 rfl) ?_
  refine lv_iload_n C.x C.b dL_law_1062 rfl (lv_at hl 3 rfl) ?_
  refine lv_iconst (v := 1) C.x C.b dL_law_1063 ki_1 ?_
  refine lv_iadd C.x C.b dL_law_1064 ?_
  refine m_iald C hH (hsc.2 _ (hH.2.2.2.2.2.2.2 _ hsc.1)).2.1 dL_law_1065 ?_
  refine m_callVI (As := [.int (a 1)]) (rest := [.int r]) (v := r) C hH hL cv__law_130 (ct_X2_feed l D H0 f2) c2 ⟨Nat.le_of_ble_eq_true rfl, Nat.le_of_ble_eq_true rfl⟩ rfl hl.1 rfl (Nat.le_of_ble_eq_true rfl) dL_law_1066 (fun H_1 locs_1 hH_1 hL_1 => ?_)
  refine lv_icmp_eq (tgt := 1431) C.x C.b dL_law_1069 (by decide) (fun q => ?_) (fun q => absurd rfl q)
  exact K H_1 locs_1 ls hH_1 hL_1 (lv_sub hl [0, 1, 2, 3] rfl)
set_option maxRecDepth 20000 in
theorem la_reads (C : Cx p m meth c cL_law 4 s #[Value.ref b] R_law room_1 ev D H0 35 11482) (hsc : Sc ev b x3 a) {σ : Mm} {P : Option Value → Mm → Prop} (c1 : isC σ x1 0 = some ()) (f1 : CtP l D H0 ev yX0_reads (wsW_ yX0_reads cX0_reads 4 (some .int) [(0, 103, 110, 396), (0, 103, 123, 0), (110, 116, 123, 0)]) 12 10300 [.ref x1] σ P) (K : ∀ (v : Option Value) (σ1 : Mm), P v σ1 → ∃ r : Int32, v = some (.int r) ∧ GG p l e room_1 s m #[Value.ref b] below meth c D H0 ev 4 (lw_Z below #[Value.ref b] s) σ1 1078 [(0, .ref b), (1, .ref x1), (2, .ref x2), (3, .int x3)] [.int r]) : GG p l e room_1 s m #[Value.ref b] below meth c D H0 ev 4 (lw_Z below #[Value.ref b] s) σ 1074 [(0, .ref b), (1, .ref x1), (2, .ref x2), (3, .int x3)] [] := by
  intro H locs ls hH hL hl
  refine lv_aload_n C.x C.b dL_law_1074 rfl (lv_at hl 1 rfl) ?_
  refine m_callVP (As := []) (rest := []) C hH hL cvw_law_131 f1 c1 ⟨Nat.le_of_ble_eq_true rfl, Nat.le_of_ble_eq_true rfl⟩ rfl hl.1 rfl (Nat.le_of_ble_eq_true rfl) dL_law_1075 (fun v σ1 hv H_8 locs_8 hH_8 hL_8 => ?_)
  obtain ⟨r, rfl, k⟩ := K v σ1 hv
  exact k H_8 locs_8 ls hH_8 hL_8 (lv_sub hl [0, 1, 2, 3] rfl)
set_option maxRecDepth 20000 in
theorem lb_reads (C : Cx p m meth c cL_law 4 s #[Value.ref b] R_law room_1 ev D H0 35 11482) (hsc : Sc ev b x3 a) {σ1 σ2 : Mm} {r : Int32} (c2 : isC σ1 x2 2 = some ()) (f2 : f_X2_reads fu ev σ1 x2  = some (r, σ2)) (K : GG p l e room_1 s m #[Value.ref b] below meth c D H0 ev 4 (lw_Z below #[Value.ref b] s) σ2 1431 [(0, .ref b), (1, .ref x1), (2, .ref x2), (3, .int x3)] []) : GG p l e room_1 s m #[Value.ref b] below meth c D H0 ev 4 (lw_Z below #[Value.ref b] s) σ1 1078 [(0, .ref b), (1, .ref x1), (2, .ref x2), (3, .int x3)] [.int r] := by
  intro H locs ls hH hL hl
  refine lv_aload_n C.x C.b dL_law_1078 rfl (lv_at hl 2 rfl) ?_
  refine m_callVI (As := []) (rest := [.int r]) (v := r) C hH hL cv__law_134 (ct_X2_reads l D H0 f2) c2 ⟨Nat.le_of_ble_eq_true rfl, Nat.le_of_ble_eq_true rfl⟩ rfl hl.1 rfl (Nat.le_of_ble_eq_true rfl) dL_law_1079 (fun H_1 locs_1 hH_1 hL_1 => ?_)
  refine lv_icmp_eq (tgt := 1431) C.x C.b dL_law_1082 (by decide) (fun q => ?_) (fun q => absurd rfl q)
  exact K H_1 locs_1 ls hH_1 hL_1 (lv_sub hl [0, 1, 2, 3] rfl)
set_option maxRecDepth 20000 in
theorem la_prints (C : Cx p m meth c cL_law 4 s #[Value.ref b] R_law room_1 ev D H0 35 11482) (hsc : Sc ev b x3 a) {σ σ1 : Mm} {r : Int32} (c1 : isC σ x1 0 = some ()) (f1 : f_X0_prints fu ev σ x1 (a 1) (a 2) = some (r, σ1)) (K : GG p l e room_1 s m #[Value.ref b] below meth c D H0 ev 4 (lw_Z below #[Value.ref b] s) σ1 1101 [(0, .ref b), (1, .ref x1), (2, .ref x2), (3, .int x3)] [.int r]) : GG p l e room_1 s m #[Value.ref b] below meth c D H0 ev 4 (lw_Z below #[Value.ref b] s) σ 1087 [(0, .ref b), (1, .ref x1), (2, .ref x2), (3, .int x3)] [] := by
  intro H locs ls hH hL hl
  refine lv_aload_n C.x C.b dL_law_1087 rfl (lv_at hl 1 rfl) ?_
  refine lv_aload_n C.x C.b dL_law_1088 rfl (lv_at hl 0 rfl) ?_
  refine lv_iload_n C.x C.b dL_law_1089 rfl (lv_at hl 3 rfl) ?_
  refine lv_iconst (v := 1) C.x C.b dL_law_1090 ki_1 ?_
  refine lv_iadd C.x C.b dL_law_1091 ?_
  refine m_iald C hH (hsc.2 _ (hH.2.2.2.2.2.2.2 _ hsc.1)).2.1 dL_law_1092 ?_
  refine lv_aload_n C.x C.b dL_law_1093 rfl (lv_at hl 0 rfl) ?_
  refine lv_iload_n C.x C.b dL_law_1094 rfl (lv_at hl 3 rfl) ?_
  refine lv_iconst (v := 2) C.x C.b dL_law_1095 ki_2 ?_
  refine lv_iadd C.x C.b dL_law_1096 ?_
  refine m_iald C hH (hsc.2 _ (hH.2.2.2.2.2.2.2 _ hsc.1)).2.2.1 dL_law_1097 ?_
  refine m_callVI (As := [.int (a 1), .int (a 2)]) (rest := []) (v := r) C hH hL cv__law_135 (ct_X0_prints l D H0 f1) c1 ⟨Nat.le_of_ble_eq_true rfl, Nat.le_of_ble_eq_true rfl⟩ rfl hl.1 rfl (Nat.le_of_ble_eq_true rfl) dL_law_1098 (fun H_1 locs_1 hH_1 hL_1 => ?_)
  exact K H_1 locs_1 ls hH_1 hL_1 (lv_sub hl [0, 1, 2, 3] rfl)
set_option maxRecDepth 20000 in
theorem lb_prints (C : Cx p m meth c cL_law 4 s #[Value.ref b] R_law room_1 ev D H0 35 11482) (hsc : Sc ev b x3 a) {σ1 σ2 : Mm} {r : Int32} (c2 : isC σ1 x2 2 = some ()) (f2 : f_X2_prints fu ev σ1 x2 (a 1) (a 2) = some (r, σ2)) (K : GG p l e room_1 s m #[Value.ref b] below meth c D H0 ev 4 (lw_Z below #[Value.ref b] s) σ2 1431 [(0, .ref b), (1, .ref x1), (2, .ref x2), (3, .int x3)] []) : GG p l e room_1 s m #[Value.ref b] below meth c D H0 ev 4 (lw_Z below #[Value.ref b] s) σ1 1101 [(0, .ref b), (1, .ref x1), (2, .ref x2), (3, .int x3)] [.int r] := by
  intro H locs ls hH hL hl
  refine lv_aload_n C.x C.b dL_law_1101 rfl (lv_at hl 2 rfl) ?_
  refine lv_aload_n C.x C.b dL_law_1102 rfl (lv_at hl 0 rfl) ?_
  refine lv_iload_n C.x C.b dL_law_1103 rfl (lv_at hl 3 rfl) ?_
  refine lv_iconst (v := 1) C.x C.b dL_law_1104 ki_1 ?_
  refine lv_iadd C.x C.b dL_law_1105 ?_
  refine m_iald C hH (hsc.2 _ (hH.2.2.2.2.2.2.2 _ hsc.1)).2.1 dL_law_1106 ?_
  refine lv_aload_n C.x C.b dL_law_1107 rfl (lv_at hl 0 rfl) ?_
  refine lv_iload_n C.x C.b dL_law_1108 rfl (lv_at hl 3 rfl) ?_
  refine lv_iconst (v := 2) C.x C.b dL_law_1109 ki_2 ?_
  refine lv_iadd C.x C.b dL_law_1110 ?_
  refine m_iald C hH (hsc.2 _ (hH.2.2.2.2.2.2.2 _ hsc.1)).2.2.1 dL_law_1111 ?_
  refine m_callVI (As := [.int (a 1), .int (a 2)]) (rest := [.int r]) (v := r) C hH hL cv__law_138 (ct_X2_prints l D H0 f2) c2 ⟨Nat.le_of_ble_eq_true rfl, Nat.le_of_ble_eq_true rfl⟩ rfl hl.1 rfl (Nat.le_of_ble_eq_true rfl) dL_law_1112 (fun H_1 locs_1 hH_1 hL_1 => ?_)
  refine lv_icmp_eq (tgt := 1431) C.x C.b dL_law_1115 (by decide) (fun q => ?_) (fun q => absurd rfl q)
  exact K H_1 locs_1 ls hH_1 hL_1 (lv_sub hl [0, 1, 2, 3] rfl)
set_option maxRecDepth 20000 in
theorem la_paper (C : Cx p m meth c cL_law 4 s #[Value.ref b] R_law room_1 ev D H0 35 11482) (hsc : Sc ev b x3 a) {σ σ1 : Mm} {r : Int32} (c1 : isC σ x1 0 = some ()) (f1 : f_X0_paper fu ev σ x1 (a 1) = some (r, σ1)) (K : GG p l e room_1 s m #[Value.ref b] below meth c D H0 ev 4 (lw_Z below #[Value.ref b] s) σ1 1129 [(0, .ref b), (1, .ref x1), (2, .ref x2), (3, .int x3)] [.int r]) : GG p l e room_1 s m #[Value.ref b] below meth c D H0 ev 4 (lw_Z below #[Value.ref b] s) σ 1120 [(0, .ref b), (1, .ref x1), (2, .ref x2), (3, .int x3)] [] := by
  intro H locs ls hH hL hl
  refine lv_aload_n C.x C.b dL_law_1120 rfl (lv_at hl 1 rfl) ?_
  refine lv_aload_n C.x C.b dL_law_1121 rfl (lv_at hl 0 rfl) ?_
  refine lv_iload_n C.x C.b dL_law_1122 rfl (lv_at hl 3 rfl) ?_
  refine lv_iconst (v := 1) C.x C.b dL_law_1123 ki_1 ?_
  refine lv_iadd C.x C.b dL_law_1124 ?_
  refine m_iald C hH (hsc.2 _ (hH.2.2.2.2.2.2.2 _ hsc.1)).2.1 dL_law_1125 ?_
  refine m_callVI (As := [.int (a 1)]) (rest := []) (v := r) C hH hL cv__law_139 (ct_X0_paper l D H0 f1) c1 ⟨Nat.le_of_ble_eq_true rfl, Nat.le_of_ble_eq_true rfl⟩ rfl hl.1 rfl (Nat.le_of_ble_eq_true rfl) dL_law_1126 (fun H_1 locs_1 hH_1 hL_1 => ?_)
  exact K H_1 locs_1 ls hH_1 hL_1 (lv_sub hl [0, 1, 2, 3] rfl)
set_option maxRecDepth 20000 in
theorem lb_paper (C : Cx p m meth c cL_law 4 s #[Value.ref b] R_law room_1 ev D H0 35 11482) (hsc : Sc ev b x3 a) {σ1 σ2 : Mm} {r : Int32} (c2 : isC σ1 x2 2 = some ()) (f2 : f_X2_paper fu ev σ1 x2 (a 1) = some (r, σ2)) (K : GG p l e room_1 s m #[Value.ref b] below meth c D H0 ev 4 (lw_Z below #[Value.ref b] s) σ2 1431 [(0, .ref b), (1, .ref x1), (2, .ref x2), (3, .int x3)] []) : GG p l e room_1 s m #[Value.ref b] below meth c D H0 ev 4 (lw_Z below #[Value.ref b] s) σ1 1129 [(0, .ref b), (1, .ref x1), (2, .ref x2), (3, .int x3)] [.int r] := by
  intro H locs ls hH hL hl
  refine lv_aload_n C.x C.b dL_law_1129 rfl (lv_at hl 2 rfl) ?_
  refine lv_aload_n C.x C.b dL_law_1130 rfl (lv_at hl 0 rfl) ?_
  refine lv_iload_n C.x C.b dL_law_1131 rfl (lv_at hl 3 rfl) ?_
  refine lv_iconst (v := 1) C.x C.b dL_law_1132 ki_1 ?_
  refine lv_iadd C.x C.b dL_law_1133 ?_
  refine m_iald C hH (hsc.2 _ (hH.2.2.2.2.2.2.2 _ hsc.1)).2.1 dL_law_1134 ?_
  refine m_callVI (As := [.int (a 1)]) (rest := [.int r]) (v := r) C hH hL cv__law_142 (ct_X2_paper l D H0 f2) c2 ⟨Nat.le_of_ble_eq_true rfl, Nat.le_of_ble_eq_true rfl⟩ rfl hl.1 rfl (Nat.le_of_ble_eq_true rfl) dL_law_1135 (fun H_1 locs_1 hH_1 hL_1 => ?_)
  refine lv_icmp_eq (tgt := 1431) C.x C.b dL_law_1138 (by decide) (fun q => ?_) (fun q => absurd rfl q)
  exact K H_1 locs_1 ls hH_1 hL_1 (lv_sub hl [0, 1, 2, 3] rfl)
set_option maxRecDepth 20000 in
theorem la_list (C : Cx p m meth c cL_law 4 s #[Value.ref b] R_law room_1 ev D H0 35 11482) (hsc : Sc ev b x3 a) {σ : Mm} {P : Option Value → Mm → Prop} (c1 : isC σ x1 0 = some ()) (f1 : CtP l D H0 ev yX0_list (wsW_ yX0_list cX0_list 4 (some .int) [(15, 24, 27, 448)]) 12 10300 [.ref x1, .int (a 1), .int (a 2)] σ P) (K : ∀ (v : Option Value) (σ1 : Mm), P v σ1 → ∃ r : Int32, v = some (.int r) ∧ GG p l e room_1 s m #[Value.ref b] below meth c D H0 ev 4 (lw_Z below #[Value.ref b] s) σ1 1157 [(0, .ref b), (1, .ref x1), (2, .ref x2), (3, .int x3)] [.int r]) : GG p l e room_1 s m #[Value.ref b] below meth c D H0 ev 4 (lw_Z below #[Value.ref b] s) σ 1143 [(0, .ref b), (1, .ref x1), (2, .ref x2), (3, .int x3)] [] := by
  intro H locs ls hH hL hl
  refine lv_aload_n C.x C.b dL_law_1143 rfl (lv_at hl 1 rfl) ?_
  refine lv_aload_n C.x C.b dL_law_1144 rfl (lv_at hl 0 rfl) ?_
  refine lv_iload_n C.x C.b dL_law_1145 rfl (lv_at hl 3 rfl) ?_
  refine lv_iconst (v := 1) C.x C.b dL_law_1146 ki_1 ?_
  refine lv_iadd C.x C.b dL_law_1147 ?_
  refine m_iald C hH (hsc.2 _ (hH.2.2.2.2.2.2.2 _ hsc.1)).2.1 dL_law_1148 ?_
  refine lv_aload_n C.x C.b dL_law_1149 rfl (lv_at hl 0 rfl) ?_
  refine lv_iload_n C.x C.b dL_law_1150 rfl (lv_at hl 3 rfl) ?_
  refine lv_iconst (v := 2) C.x C.b dL_law_1151 ki_2 ?_
  refine lv_iadd C.x C.b dL_law_1152 ?_
  refine m_iald C hH (hsc.2 _ (hH.2.2.2.2.2.2.2 _ hsc.1)).2.2.1 dL_law_1153 ?_
  refine m_callVP (As := [.int (a 1), .int (a 2)]) (rest := []) C hH hL cvw_law_143 f1 c1 ⟨Nat.le_of_ble_eq_true rfl, Nat.le_of_ble_eq_true rfl⟩ rfl hl.1 rfl (Nat.le_of_ble_eq_true rfl) dL_law_1154 (fun v σ1 hv H_8 locs_8 hH_8 hL_8 => ?_)
  obtain ⟨r, rfl, k⟩ := K v σ1 hv
  exact k H_8 locs_8 ls hH_8 hL_8 (lv_sub hl [0, 1, 2, 3] rfl)
set_option maxRecDepth 20000 in
theorem lb_list (C : Cx p m meth c cL_law 4 s #[Value.ref b] R_law room_1 ev D H0 35 11482) (hsc : Sc ev b x3 a) {σ1 σ2 : Mm} {r : Int32} (c2 : isC σ1 x2 2 = some ()) (f2 : f_X2_list fu ev σ1 x2 (a 1) (a 2) = some (r, σ2)) (K : GG p l e room_1 s m #[Value.ref b] below meth c D H0 ev 4 (lw_Z below #[Value.ref b] s) σ2 1431 [(0, .ref b), (1, .ref x1), (2, .ref x2), (3, .int x3)] []) : GG p l e room_1 s m #[Value.ref b] below meth c D H0 ev 4 (lw_Z below #[Value.ref b] s) σ1 1157 [(0, .ref b), (1, .ref x1), (2, .ref x2), (3, .int x3)] [.int r] := by
  intro H locs ls hH hL hl
  refine lv_aload_n C.x C.b dL_law_1157 rfl (lv_at hl 2 rfl) ?_
  refine lv_aload_n C.x C.b dL_law_1158 rfl (lv_at hl 0 rfl) ?_
  refine lv_iload_n C.x C.b dL_law_1159 rfl (lv_at hl 3 rfl) ?_
  refine lv_iconst (v := 1) C.x C.b dL_law_1160 ki_1 ?_
  refine lv_iadd C.x C.b dL_law_1161 ?_
  refine m_iald C hH (hsc.2 _ (hH.2.2.2.2.2.2.2 _ hsc.1)).2.1 dL_law_1162 ?_
  refine lv_aload_n C.x C.b dL_law_1163 rfl (lv_at hl 0 rfl) ?_
  refine lv_iload_n C.x C.b dL_law_1164 rfl (lv_at hl 3 rfl) ?_
  refine lv_iconst (v := 2) C.x C.b dL_law_1165 ki_2 ?_
  refine lv_iadd C.x C.b dL_law_1166 ?_
  refine m_iald C hH (hsc.2 _ (hH.2.2.2.2.2.2.2 _ hsc.1)).2.2.1 dL_law_1167 ?_
  refine m_callVI (As := [.int (a 1), .int (a 2)]) (rest := [.int r]) (v := r) C hH hL cv__law_146 (ct_X2_list l D H0 f2) c2 ⟨Nat.le_of_ble_eq_true rfl, Nat.le_of_ble_eq_true rfl⟩ rfl hl.1 rfl (Nat.le_of_ble_eq_true rfl) dL_law_1168 (fun H_1 locs_1 hH_1 hL_1 => ?_)
  refine lv_icmp_eq (tgt := 1431) C.x C.b dL_law_1171 (by decide) (fun q => ?_) (fun q => absurd rfl q)
  exact K H_1 locs_1 ls hH_1 hL_1 (lv_sub hl [0, 1, 2, 3] rfl)
set_option maxRecDepth 20000 in
theorem la_set (C : Cx p m meth c cL_law 4 s #[Value.ref b] R_law room_1 ev D H0 35 11482) (hsc : Sc ev b x3 a) {σ : Mm} {P : Option Value → Mm → Prop} (c1 : isC σ x1 0 = some ()) (f1 : CtP l D H0 ev yX0_set (wsW_ yX0_set cX0_set 6 (some .int) [(9, 18, 21, 450), (9, 18, 26, 452)]) 12 10300 [.ref x1, .int (a 1), .int (a 2), .long ((((a 3).toInt64) <<< (((32 : Int32)).toInt64 &&& 63)) ||| (((a 4).toInt64) &&& (4294967295 : Int64)))] σ P) (K : ∀ (v : Option Value) (σ1 : Mm), P v σ1 → ∃ r : Int32, v = some (.int r) ∧ GG p l e room_1 s m #[Value.ref b] below meth c D H0 ev 4 (lw_Z below #[Value.ref b] s) σ1 1210 [(0, .ref b), (1, .ref x1), (2, .ref x2), (3, .int x3)] [.int r]) : GG p l e room_1 s m #[Value.ref b] below meth c D H0 ev 4 (lw_Z below #[Value.ref b] s) σ 1176 [(0, .ref b), (1, .ref x1), (2, .ref x2), (3, .int x3)] [] := by
  intro H locs ls hH hL hl
  refine lv_aload_n C.x C.b dL_law_1176 rfl (lv_at hl 1 rfl) ?_
  refine lv_aload_n C.x C.b dL_law_1177 rfl (lv_at hl 0 rfl) ?_
  refine lv_iload_n C.x C.b dL_law_1178 rfl (lv_at hl 3 rfl) ?_
  refine lv_iconst (v := 1) C.x C.b dL_law_1179 ki_1 ?_
  refine lv_iadd C.x C.b dL_law_1180 ?_
  refine m_iald C hH (hsc.2 _ (hH.2.2.2.2.2.2.2 _ hsc.1)).2.1 dL_law_1181 ?_
  refine lv_aload_n C.x C.b dL_law_1182 rfl (lv_at hl 0 rfl) ?_
  refine lv_iload_n C.x C.b dL_law_1183 rfl (lv_at hl 3 rfl) ?_
  refine lv_iconst (v := 2) C.x C.b dL_law_1184 ki_2 ?_
  refine lv_iadd C.x C.b dL_law_1185 ?_
  refine m_iald C hH (hsc.2 _ (hH.2.2.2.2.2.2.2 _ hsc.1)).2.2.1 dL_law_1186 ?_
  refine lv_aload_n C.x C.b dL_law_1187 rfl (lv_at hl 0 rfl) ?_
  refine lv_iload_n C.x C.b dL_law_1188 rfl (lv_at hl 3 rfl) ?_
  refine lv_iconst (v := 3) C.x C.b dL_law_1189 ki_3 ?_
  refine lv_iadd C.x C.b dL_law_1190 ?_
  refine m_iald C hH (hsc.2 _ (hH.2.2.2.2.2.2.2 _ hsc.1)).2.2.2.1 dL_law_1191 ?_
  refine lv_i2l C.x C.b dL_law_1192 rfl ?_
  refine lv_bipush (v := 32) C.x C.b dL_law_1193 kb_32 ?_
  refine lv_lshl C.x C.b dL_law_1195 rfl ?_
  refine lv_aload_n C.x C.b dL_law_1196 rfl (lv_at hl 0 rfl) ?_
  refine lv_iload_n C.x C.b dL_law_1197 rfl (lv_at hl 3 rfl) ?_
  refine lv_iconst (v := 4) C.x C.b dL_law_1198 ki_4 ?_
  refine lv_iadd C.x C.b dL_law_1199 ?_
  refine m_iald C hH (hsc.2 _ (hH.2.2.2.2.2.2.2 _ hsc.1)).2.2.2.2.1 dL_law_1200 ?_
  refine lv_i2l C.x C.b dL_law_1201 rfl ?_
  refine lv_ldc2 C.x C.b C.1.2.2.2.1 (C.w q3103) dL_law_1202 ?_
  refine lv_land C.x C.b dL_law_1205 ?_
  refine lv_lor C.x C.b dL_law_1206 ?_
  refine m_callVP (As := [.int (a 1), .int (a 2), .long ((((a 3).toInt64) <<< (((32 : Int32)).toInt64 &&& 63)) ||| (((a 4).toInt64) &&& (4294967295 : Int64)))]) (rest := []) C hH hL cvw_law_149 f1 c1 ⟨Nat.le_of_ble_eq_true rfl, Nat.le_of_ble_eq_true rfl⟩ rfl hl.1 rfl (Nat.le_of_ble_eq_true rfl) dL_law_1207 (fun v σ1 hv H_8 locs_8 hH_8 hL_8 => ?_)
  obtain ⟨r, rfl, k⟩ := K v σ1 hv
  exact k H_8 locs_8 ls hH_8 hL_8 (lv_sub hl [0, 1, 2, 3] rfl)
set_option maxRecDepth 20000 in
theorem lb_set (C : Cx p m meth c cL_law 4 s #[Value.ref b] R_law room_1 ev D H0 35 11482) (hsc : Sc ev b x3 a) {σ1 σ2 : Mm} {r : Int32} (c2 : isC σ1 x2 2 = some ()) (f2 : f_X2_set fu ev σ1 x2 (a 1) (a 2) ((((a 3).toInt64) <<< (((32 : Int32)).toInt64 &&& 63)) ||| (((a 4).toInt64) &&& (4294967295 : Int64))) = some (r, σ2)) (K : GG p l e room_1 s m #[Value.ref b] below meth c D H0 ev 4 (lw_Z below #[Value.ref b] s) σ2 1431 [(0, .ref b), (1, .ref x1), (2, .ref x2), (3, .int x3)] []) : GG p l e room_1 s m #[Value.ref b] below meth c D H0 ev 4 (lw_Z below #[Value.ref b] s) σ1 1210 [(0, .ref b), (1, .ref x1), (2, .ref x2), (3, .int x3)] [.int r] := by
  intro H locs ls hH hL hl
  refine lv_aload_n C.x C.b dL_law_1210 rfl (lv_at hl 2 rfl) ?_
  refine lv_aload_n C.x C.b dL_law_1211 rfl (lv_at hl 0 rfl) ?_
  refine lv_iload_n C.x C.b dL_law_1212 rfl (lv_at hl 3 rfl) ?_
  refine lv_iconst (v := 1) C.x C.b dL_law_1213 ki_1 ?_
  refine lv_iadd C.x C.b dL_law_1214 ?_
  refine m_iald C hH (hsc.2 _ (hH.2.2.2.2.2.2.2 _ hsc.1)).2.1 dL_law_1215 ?_
  refine lv_aload_n C.x C.b dL_law_1216 rfl (lv_at hl 0 rfl) ?_
  refine lv_iload_n C.x C.b dL_law_1217 rfl (lv_at hl 3 rfl) ?_
  refine lv_iconst (v := 2) C.x C.b dL_law_1218 ki_2 ?_
  refine lv_iadd C.x C.b dL_law_1219 ?_
  refine m_iald C hH (hsc.2 _ (hH.2.2.2.2.2.2.2 _ hsc.1)).2.2.1 dL_law_1220 ?_
  refine lv_aload_n C.x C.b dL_law_1221 rfl (lv_at hl 0 rfl) ?_
  refine lv_iload_n C.x C.b dL_law_1222 rfl (lv_at hl 3 rfl) ?_
  refine lv_iconst (v := 3) C.x C.b dL_law_1223 ki_3 ?_
  refine lv_iadd C.x C.b dL_law_1224 ?_
  refine m_iald C hH (hsc.2 _ (hH.2.2.2.2.2.2.2 _ hsc.1)).2.2.2.1 dL_law_1225 ?_
  refine lv_i2l C.x C.b dL_law_1226 rfl ?_
  refine lv_bipush (v := 32) C.x C.b dL_law_1227 kb_32 ?_
  refine lv_lshl C.x C.b dL_law_1229 rfl ?_
  refine lv_aload_n C.x C.b dL_law_1230 rfl (lv_at hl 0 rfl) ?_
  refine lv_iload_n C.x C.b dL_law_1231 rfl (lv_at hl 3 rfl) ?_
  refine lv_iconst (v := 4) C.x C.b dL_law_1232 ki_4 ?_
  refine lv_iadd C.x C.b dL_law_1233 ?_
  refine m_iald C hH (hsc.2 _ (hH.2.2.2.2.2.2.2 _ hsc.1)).2.2.2.2.1 dL_law_1234 ?_
  refine lv_i2l C.x C.b dL_law_1235 rfl ?_
  refine lv_ldc2 C.x C.b C.1.2.2.2.1 (C.w q3103) dL_law_1236 ?_
  refine lv_land C.x C.b dL_law_1239 ?_
  refine lv_lor C.x C.b dL_law_1240 ?_
  refine m_callVI (As := [.int (a 1), .int (a 2), .long ((((a 3).toInt64) <<< (((32 : Int32)).toInt64 &&& 63)) ||| (((a 4).toInt64) &&& (4294967295 : Int64)))]) (rest := [.int r]) (v := r) C hH hL cv__law_153 (ct_X2_set l D H0 f2) c2 ⟨Nat.le_of_ble_eq_true rfl, Nat.le_of_ble_eq_true rfl⟩ rfl hl.1 rfl (Nat.le_of_ble_eq_true rfl) dL_law_1241 (fun H_1 locs_1 hH_1 hL_1 => ?_)
  refine lv_icmp_eq (tgt := 1431) C.x C.b dL_law_1244 (by decide) (fun q => ?_) (fun q => absurd rfl q)
  exact K H_1 locs_1 ls hH_1 hL_1 (lv_sub hl [0, 1, 2, 3] rfl)
set_option maxRecDepth 20000 in
theorem la_get (C : Cx p m meth c cL_law 4 s #[Value.ref b] R_law room_1 ev D H0 35 11482) (hsc : Sc ev b x3 a) {σ : Mm} {P : Option Value → Mm → Prop} (c1 : isC σ x1 0 = some ()) (f1 : CtP l D H0 ev yX0_get (wsW_ yX0_get cX0_get 4 (some .long) [(11, 19, 20, 450), (11, 19, 20, 452)]) 12 10300 [.ref x1, .int (a 1), .int (a 2)] σ P) (K : ∀ (v : Option Value) (σ1 : Mm), P v σ1 → ∃ r : Int64, v = some (.long r) ∧ GG p l e room_1 s m #[Value.ref b] below meth c D H0 ev 4 (lw_Z below #[Value.ref b] s) σ1 1263 [(0, .ref b), (1, .ref x1), (2, .ref x2), (3, .int x3)] [.long r]) : GG p l e room_1 s m #[Value.ref b] below meth c D H0 ev 4 (lw_Z below #[Value.ref b] s) σ 1249 [(0, .ref b), (1, .ref x1), (2, .ref x2), (3, .int x3)] [] := by
  intro H locs ls hH hL hl
  refine lv_aload_n C.x C.b dL_law_1249 rfl (lv_at hl 1 rfl) ?_
  refine lv_aload_n C.x C.b dL_law_1250 rfl (lv_at hl 0 rfl) ?_
  refine lv_iload_n C.x C.b dL_law_1251 rfl (lv_at hl 3 rfl) ?_
  refine lv_iconst (v := 1) C.x C.b dL_law_1252 ki_1 ?_
  refine lv_iadd C.x C.b dL_law_1253 ?_
  refine m_iald C hH (hsc.2 _ (hH.2.2.2.2.2.2.2 _ hsc.1)).2.1 dL_law_1254 ?_
  refine lv_aload_n C.x C.b dL_law_1255 rfl (lv_at hl 0 rfl) ?_
  refine lv_iload_n C.x C.b dL_law_1256 rfl (lv_at hl 3 rfl) ?_
  refine lv_iconst (v := 2) C.x C.b dL_law_1257 ki_2 ?_
  refine lv_iadd C.x C.b dL_law_1258 ?_
  refine m_iald C hH (hsc.2 _ (hH.2.2.2.2.2.2.2 _ hsc.1)).2.2.1 dL_law_1259 ?_
  refine m_callVP (As := [.int (a 1), .int (a 2)]) (rest := []) C hH hL cvw_law_154 f1 c1 ⟨Nat.le_of_ble_eq_true rfl, Nat.le_of_ble_eq_true rfl⟩ rfl hl.1 rfl (Nat.le_of_ble_eq_true rfl) dL_law_1260 (fun v σ1 hv H_8 locs_8 hH_8 hL_8 => ?_)
  obtain ⟨r, rfl, k⟩ := K v σ1 hv
  exact k H_8 locs_8 ls hH_8 hL_8 (lv_sub hl [0, 1, 2, 3] rfl)
set_option maxRecDepth 20000 in
theorem lb_get (C : Cx p m meth c cL_law 4 s #[Value.ref b] R_law room_1 ev D H0 35 11482) (hsc : Sc ev b x3 a) {σ1 σ2 : Mm} {r : Int64} (c2 : isC σ1 x2 2 = some ()) (f2 : f_X2_get fu ev σ1 x2 (a 1) (a 2) = some (r, σ2)) (K : GG p l e room_1 s m #[Value.ref b] below meth c D H0 ev 4 (lw_Z below #[Value.ref b] s) σ2 1431 [(0, .ref b), (1, .ref x1), (2, .ref x2), (3, .int x3)] []) : GG p l e room_1 s m #[Value.ref b] below meth c D H0 ev 4 (lw_Z below #[Value.ref b] s) σ1 1263 [(0, .ref b), (1, .ref x1), (2, .ref x2), (3, .int x3)] [.long r] := by
  intro H locs ls hH hL hl
  refine lv_aload_n C.x C.b dL_law_1263 rfl (lv_at hl 2 rfl) ?_
  refine lv_aload_n C.x C.b dL_law_1264 rfl (lv_at hl 0 rfl) ?_
  refine lv_iload_n C.x C.b dL_law_1265 rfl (lv_at hl 3 rfl) ?_
  refine lv_iconst (v := 1) C.x C.b dL_law_1266 ki_1 ?_
  refine lv_iadd C.x C.b dL_law_1267 ?_
  refine m_iald C hH (hsc.2 _ (hH.2.2.2.2.2.2.2 _ hsc.1)).2.1 dL_law_1268 ?_
  refine lv_aload_n C.x C.b dL_law_1269 rfl (lv_at hl 0 rfl) ?_
  refine lv_iload_n C.x C.b dL_law_1270 rfl (lv_at hl 3 rfl) ?_
  refine lv_iconst (v := 2) C.x C.b dL_law_1271 ki_2 ?_
  refine lv_iadd C.x C.b dL_law_1272 ?_
  refine m_iald C hH (hsc.2 _ (hH.2.2.2.2.2.2.2 _ hsc.1)).2.2.1 dL_law_1273 ?_
  refine m_callVJ (As := [.int (a 1), .int (a 2)]) (rest := [.long r]) (v := r) C hH hL cv__law_157 (ct_X2_get l D H0 f2) c2 ⟨Nat.le_of_ble_eq_true rfl, Nat.le_of_ble_eq_true rfl⟩ rfl hl.1 rfl (Nat.le_of_ble_eq_true rfl) dL_law_1274 (fun H_1 locs_1 hH_1 hL_1 => ?_)
  refine r_lc_eq (tgt := 1431) C.x C.b dL_law_1277 dL_law_1278 (by decide) (fun q => ?_) (fun q => absurd rfl q)
  exact K H_1 locs_1 ls hH_1 hL_1 (lv_sub hl [0, 1, 2, 3] rfl)
set_option maxRecDepth 20000 in
theorem la_into (C : Cx p m meth c cL_law 4 s #[Value.ref b] R_law room_1 ev D H0 35 11482) (hsc : Sc ev b x3 a) {σ σ1 : Mm} {r : Int32} (c1 : isC σ x1 0 = some ()) (f1 : f_X0_into fu ev σ x1 (a 1) (a 2) (a 3) (a 4) = some (r, σ1)) (K : GG p l e room_1 s m #[Value.ref b] below meth c D H0 ev 4 (lw_Z below #[Value.ref b] s) σ1 1307 [(0, .ref b), (1, .ref x1), (2, .ref x2), (3, .int x3)] [.int r]) : GG p l e room_1 s m #[Value.ref b] below meth c D H0 ev 4 (lw_Z below #[Value.ref b] s) σ 1283 [(0, .ref b), (1, .ref x1), (2, .ref x2), (3, .int x3)] [] := by
  intro H locs ls hH hL hl
  refine lv_aload_n C.x C.b dL_law_1283 rfl (lv_at hl 1 rfl) ?_
  refine lv_aload_n C.x C.b dL_law_1284 rfl (lv_at hl 0 rfl) ?_
  refine lv_iload_n C.x C.b dL_law_1285 rfl (lv_at hl 3 rfl) ?_
  refine lv_iconst (v := 1) C.x C.b dL_law_1286 ki_1 ?_
  refine lv_iadd C.x C.b dL_law_1287 ?_
  refine m_iald C hH (hsc.2 _ (hH.2.2.2.2.2.2.2 _ hsc.1)).2.1 dL_law_1288 ?_
  refine lv_aload_n C.x C.b dL_law_1289 rfl (lv_at hl 0 rfl) ?_
  refine lv_iload_n C.x C.b dL_law_1290 rfl (lv_at hl 3 rfl) ?_
  refine lv_iconst (v := 2) C.x C.b dL_law_1291 ki_2 ?_
  refine lv_iadd C.x C.b dL_law_1292 ?_
  refine m_iald C hH (hsc.2 _ (hH.2.2.2.2.2.2.2 _ hsc.1)).2.2.1 dL_law_1293 ?_
  refine lv_aload_n C.x C.b dL_law_1294 rfl (lv_at hl 0 rfl) ?_
  refine lv_iload_n C.x C.b dL_law_1295 rfl (lv_at hl 3 rfl) ?_
  refine lv_iconst (v := 3) C.x C.b dL_law_1296 ki_3 ?_
  refine lv_iadd C.x C.b dL_law_1297 ?_
  refine m_iald C hH (hsc.2 _ (hH.2.2.2.2.2.2.2 _ hsc.1)).2.2.2.1 dL_law_1298 ?_
  refine lv_aload_n C.x C.b dL_law_1299 rfl (lv_at hl 0 rfl) ?_
  refine lv_iload_n C.x C.b dL_law_1300 rfl (lv_at hl 3 rfl) ?_
  refine lv_iconst (v := 4) C.x C.b dL_law_1301 ki_4 ?_
  refine lv_iadd C.x C.b dL_law_1302 ?_
  refine m_iald C hH (hsc.2 _ (hH.2.2.2.2.2.2.2 _ hsc.1)).2.2.2.2.1 dL_law_1303 ?_
  refine m_callVI (As := [.int (a 1), .int (a 2), .int (a 3), .int (a 4)]) (rest := []) (v := r) C hH hL cv__law_158 (ct_X0_into l D H0 f1) c1 ⟨Nat.le_of_ble_eq_true rfl, Nat.le_of_ble_eq_true rfl⟩ rfl hl.1 rfl (Nat.le_of_ble_eq_true rfl) dL_law_1304 (fun H_1 locs_1 hH_1 hL_1 => ?_)
  exact K H_1 locs_1 ls hH_1 hL_1 (lv_sub hl [0, 1, 2, 3] rfl)
set_option maxRecDepth 20000 in
theorem lb_into (C : Cx p m meth c cL_law 4 s #[Value.ref b] R_law room_1 ev D H0 35 11482) (hsc : Sc ev b x3 a) {σ1 σ2 : Mm} {r : Int32} (c2 : isC σ1 x2 2 = some ()) (f2 : f_X2_into fu ev σ1 x2 (a 1) (a 2) (a 3) (a 4) = some (r, σ2)) (K : GG p l e room_1 s m #[Value.ref b] below meth c D H0 ev 4 (lw_Z below #[Value.ref b] s) σ2 1431 [(0, .ref b), (1, .ref x1), (2, .ref x2), (3, .int x3)] []) : GG p l e room_1 s m #[Value.ref b] below meth c D H0 ev 4 (lw_Z below #[Value.ref b] s) σ1 1307 [(0, .ref b), (1, .ref x1), (2, .ref x2), (3, .int x3)] [.int r] := by
  intro H locs ls hH hL hl
  refine lv_aload_n C.x C.b dL_law_1307 rfl (lv_at hl 2 rfl) ?_
  refine lv_aload_n C.x C.b dL_law_1308 rfl (lv_at hl 0 rfl) ?_
  refine lv_iload_n C.x C.b dL_law_1309 rfl (lv_at hl 3 rfl) ?_
  refine lv_iconst (v := 1) C.x C.b dL_law_1310 ki_1 ?_
  refine lv_iadd C.x C.b dL_law_1311 ?_
  refine m_iald C hH (hsc.2 _ (hH.2.2.2.2.2.2.2 _ hsc.1)).2.1 dL_law_1312 ?_
  refine lv_aload_n C.x C.b dL_law_1313 rfl (lv_at hl 0 rfl) ?_
  refine lv_iload_n C.x C.b dL_law_1314 rfl (lv_at hl 3 rfl) ?_
  refine lv_iconst (v := 2) C.x C.b dL_law_1315 ki_2 ?_
  refine lv_iadd C.x C.b dL_law_1316 ?_
  refine m_iald C hH (hsc.2 _ (hH.2.2.2.2.2.2.2 _ hsc.1)).2.2.1 dL_law_1317 ?_
  refine lv_aload_n C.x C.b dL_law_1318 rfl (lv_at hl 0 rfl) ?_
  refine lv_iload_n C.x C.b dL_law_1319 rfl (lv_at hl 3 rfl) ?_
  refine lv_iconst (v := 3) C.x C.b dL_law_1320 ki_3 ?_
  refine lv_iadd C.x C.b dL_law_1321 ?_
  refine m_iald C hH (hsc.2 _ (hH.2.2.2.2.2.2.2 _ hsc.1)).2.2.2.1 dL_law_1322 ?_
  refine lv_aload_n C.x C.b dL_law_1323 rfl (lv_at hl 0 rfl) ?_
  refine lv_iload_n C.x C.b dL_law_1324 rfl (lv_at hl 3 rfl) ?_
  refine lv_iconst (v := 4) C.x C.b dL_law_1325 ki_4 ?_
  refine lv_iadd C.x C.b dL_law_1326 ?_
  refine m_iald C hH (hsc.2 _ (hH.2.2.2.2.2.2.2 _ hsc.1)).2.2.2.2.1 dL_law_1327 ?_
  refine m_callVI (As := [.int (a 1), .int (a 2), .int (a 3), .int (a 4)]) (rest := [.int r]) (v := r) C hH hL cv__law_161 (ct_X2_into l D H0 f2) c2 ⟨Nat.le_of_ble_eq_true rfl, Nat.le_of_ble_eq_true rfl⟩ rfl hl.1 rfl (Nat.le_of_ble_eq_true rfl) dL_law_1328 (fun H_1 locs_1 hH_1 hL_1 => ?_)
  refine lv_icmp_eq (tgt := 1431) C.x C.b dL_law_1331 (by decide) (fun q => ?_) (fun q => absurd rfl q)
  exact K H_1 locs_1 ls hH_1 hL_1 (lv_sub hl [0, 1, 2, 3] rfl)
set_option maxRecDepth 20000 in
theorem la_from (C : Cx p m meth c cL_law 4 s #[Value.ref b] R_law room_1 ev D H0 35 11482) (hsc : Sc ev b x3 a) {σ σ1 : Mm} {r : Int32} (c1 : isC σ x1 0 = some ()) (f1 : f_X0_from fu ev σ x1 (a 1) (a 2) = some (r, σ1)) (K : GG p l e room_1 s m #[Value.ref b] below meth c D H0 ev 4 (lw_Z below #[Value.ref b] s) σ1 1350 [(0, .ref b), (1, .ref x1), (2, .ref x2), (3, .int x3)] [.int r]) : GG p l e room_1 s m #[Value.ref b] below meth c D H0 ev 4 (lw_Z below #[Value.ref b] s) σ 1336 [(0, .ref b), (1, .ref x1), (2, .ref x2), (3, .int x3)] [] := by
  intro H locs ls hH hL hl
  refine lv_aload_n C.x C.b dL_law_1336 rfl (lv_at hl 1 rfl) ?_
  refine lv_aload_n C.x C.b dL_law_1337 rfl (lv_at hl 0 rfl) ?_
  refine lv_iload_n C.x C.b dL_law_1338 rfl (lv_at hl 3 rfl) ?_
  refine lv_iconst (v := 1) C.x C.b dL_law_1339 ki_1 ?_
  refine lv_iadd C.x C.b dL_law_1340 ?_
  refine m_iald C hH (hsc.2 _ (hH.2.2.2.2.2.2.2 _ hsc.1)).2.1 dL_law_1341 ?_
  refine lv_aload_n C.x C.b dL_law_1342 rfl (lv_at hl 0 rfl) ?_
  refine lv_iload_n C.x C.b dL_law_1343 rfl (lv_at hl 3 rfl) ?_
  refine lv_iconst (v := 2) C.x C.b dL_law_1344 ki_2 ?_
  refine lv_iadd C.x C.b dL_law_1345 ?_
  refine m_iald C hH (hsc.2 _ (hH.2.2.2.2.2.2.2 _ hsc.1)).2.2.1 dL_law_1346 ?_
  refine m_callVI (As := [.int (a 1), .int (a 2)]) (rest := []) (v := r) C hH hL cv__law_162 (ct_X0_from l D H0 f1) c1 ⟨Nat.le_of_ble_eq_true rfl, Nat.le_of_ble_eq_true rfl⟩ rfl hl.1 rfl (Nat.le_of_ble_eq_true rfl) dL_law_1347 (fun H_1 locs_1 hH_1 hL_1 => ?_)
  exact K H_1 locs_1 ls hH_1 hL_1 (lv_sub hl [0, 1, 2, 3] rfl)
set_option maxRecDepth 20000 in
theorem lb_from (C : Cx p m meth c cL_law 4 s #[Value.ref b] R_law room_1 ev D H0 35 11482) (hsc : Sc ev b x3 a) {σ1 σ2 : Mm} {r : Int32} (c2 : isC σ1 x2 2 = some ()) (f2 : f_X2_from fu ev σ1 x2 (a 1) (a 2) = some (r, σ2)) (K : GG p l e room_1 s m #[Value.ref b] below meth c D H0 ev 4 (lw_Z below #[Value.ref b] s) σ2 1431 [(0, .ref b), (1, .ref x1), (2, .ref x2), (3, .int x3)] []) : GG p l e room_1 s m #[Value.ref b] below meth c D H0 ev 4 (lw_Z below #[Value.ref b] s) σ1 1350 [(0, .ref b), (1, .ref x1), (2, .ref x2), (3, .int x3)] [.int r] := by
  intro H locs ls hH hL hl
  refine lv_aload_n C.x C.b dL_law_1350 rfl (lv_at hl 2 rfl) ?_
  refine lv_aload_n C.x C.b dL_law_1351 rfl (lv_at hl 0 rfl) ?_
  refine lv_iload_n C.x C.b dL_law_1352 rfl (lv_at hl 3 rfl) ?_
  refine lv_iconst (v := 1) C.x C.b dL_law_1353 ki_1 ?_
  refine lv_iadd C.x C.b dL_law_1354 ?_
  refine m_iald C hH (hsc.2 _ (hH.2.2.2.2.2.2.2 _ hsc.1)).2.1 dL_law_1355 ?_
  refine lv_aload_n C.x C.b dL_law_1356 rfl (lv_at hl 0 rfl) ?_
  refine lv_iload_n C.x C.b dL_law_1357 rfl (lv_at hl 3 rfl) ?_
  refine lv_iconst (v := 2) C.x C.b dL_law_1358 ki_2 ?_
  refine lv_iadd C.x C.b dL_law_1359 ?_
  refine m_iald C hH (hsc.2 _ (hH.2.2.2.2.2.2.2 _ hsc.1)).2.2.1 dL_law_1360 ?_
  refine m_callVI (As := [.int (a 1), .int (a 2)]) (rest := [.int r]) (v := r) C hH hL cv__law_165 (ct_X2_from l D H0 f2) c2 ⟨Nat.le_of_ble_eq_true rfl, Nat.le_of_ble_eq_true rfl⟩ rfl hl.1 rfl (Nat.le_of_ble_eq_true rfl) dL_law_1361 (fun H_1 locs_1 hH_1 hL_1 => ?_)
  refine lv_icmp_eq (tgt := 1431) C.x C.b dL_law_1364 (by decide) (fun q => ?_) (fun q => absurd rfl q)
  exact K H_1 locs_1 ls hH_1 hL_1 (lv_sub hl [0, 1, 2, 3] rfl)
set_option maxRecDepth 20000 in
theorem la_undo (C : Cx p m meth c cL_law 4 s #[Value.ref b] R_law room_1 ev D H0 35 11482) (hsc : Sc ev b x3 a) {σ σ1 : Mm} {r : Int32} (c1 : isC σ x1 0 = some ()) (f1 : f_X0_undo fu ev σ x1  = some (r, σ1)) (K : GG p l e room_1 s m #[Value.ref b] below meth c D H0 ev 4 (lw_Z below #[Value.ref b] s) σ1 1373 [(0, .ref b), (1, .ref x1), (2, .ref x2), (3, .int x3)] [.int r]) : GG p l e room_1 s m #[Value.ref b] below meth c D H0 ev 4 (lw_Z below #[Value.ref b] s) σ 1369 [(0, .ref b), (1, .ref x1), (2, .ref x2), (3, .int x3)] [] := by
  intro H locs ls hH hL hl
  refine lv_aload_n C.x C.b dL_law_1369 rfl (lv_at hl 1 rfl) ?_
  refine m_callVI (As := []) (rest := []) (v := r) C hH hL cv__law_166 (ct_X0_undo l D H0 f1) c1 ⟨Nat.le_of_ble_eq_true rfl, Nat.le_of_ble_eq_true rfl⟩ rfl hl.1 rfl (Nat.le_of_ble_eq_true rfl) dL_law_1370 (fun H_1 locs_1 hH_1 hL_1 => ?_)
  exact K H_1 locs_1 ls hH_1 hL_1 (lv_sub hl [0, 1, 2, 3] rfl)
set_option maxRecDepth 20000 in
theorem lb_undo (C : Cx p m meth c cL_law 4 s #[Value.ref b] R_law room_1 ev D H0 35 11482) (hsc : Sc ev b x3 a) {σ1 σ2 : Mm} {r : Int32} (c2 : isC σ1 x2 2 = some ()) (f2 : f_X2_undo fu ev σ1 x2  = some (r, σ2)) (K : GG p l e room_1 s m #[Value.ref b] below meth c D H0 ev 4 (lw_Z below #[Value.ref b] s) σ2 1431 [(0, .ref b), (1, .ref x1), (2, .ref x2), (3, .int x3)] []) : GG p l e room_1 s m #[Value.ref b] below meth c D H0 ev 4 (lw_Z below #[Value.ref b] s) σ1 1373 [(0, .ref b), (1, .ref x1), (2, .ref x2), (3, .int x3)] [.int r] := by
  intro H locs ls hH hL hl
  refine lv_aload_n C.x C.b dL_law_1373 rfl (lv_at hl 2 rfl) ?_
  refine m_callVI (As := []) (rest := [.int r]) (v := r) C hH hL cv__law_169 (ct_X2_undo l D H0 f2) c2 ⟨Nat.le_of_ble_eq_true rfl, Nat.le_of_ble_eq_true rfl⟩ rfl hl.1 rfl (Nat.le_of_ble_eq_true rfl) dL_law_1374 (fun H_1 locs_1 hH_1 hL_1 => ?_)
  refine lv_icmp_eq (tgt := 1431) C.x C.b dL_law_1377 (by decide) (fun q => ?_) (fun q => absurd rfl q)
  exact K H_1 locs_1 ls hH_1 hL_1 (lv_sub hl [0, 1, 2, 3] rfl)
set_option maxRecDepth 20000 in
theorem la_image (C : Cx p m meth c cL_law 4 s #[Value.ref b] R_law room_1 ev D H0 35 11482) (hsc : Sc ev b x3 a) {σ σ1 : Mm} {r : Int32} (c1 : isC σ x1 0 = some ()) (f1 : f_X0_image fu ev σ x1  = some (r, σ1)) (K : GG p l e room_1 s m #[Value.ref b] below meth c D H0 ev 4 (lw_Z below #[Value.ref b] s) σ1 1386 [(0, .ref b), (1, .ref x1), (2, .ref x2), (3, .int x3)] [.int r]) : GG p l e room_1 s m #[Value.ref b] below meth c D H0 ev 4 (lw_Z below #[Value.ref b] s) σ 1382 [(0, .ref b), (1, .ref x1), (2, .ref x2), (3, .int x3)] [] := by
  intro H locs ls hH hL hl
  refine lv_aload_n C.x C.b dL_law_1382 rfl (lv_at hl 1 rfl) ?_
  refine m_callVI (As := []) (rest := []) (v := r) C hH hL cv__law_170 (ct_X0_image l D H0 f1) c1 ⟨Nat.le_of_ble_eq_true rfl, Nat.le_of_ble_eq_true rfl⟩ rfl hl.1 rfl (Nat.le_of_ble_eq_true rfl) dL_law_1383 (fun H_1 locs_1 hH_1 hL_1 => ?_)
  exact K H_1 locs_1 ls hH_1 hL_1 (lv_sub hl [0, 1, 2, 3] rfl)
set_option maxRecDepth 20000 in
theorem lb_image (C : Cx p m meth c cL_law 4 s #[Value.ref b] R_law room_1 ev D H0 35 11482) (hsc : Sc ev b x3 a) {σ1 σ2 : Mm} {r : Int32} (c2 : isC σ1 x2 2 = some ()) (f2 : f_X2_image fu ev σ1 x2  = some (r, σ2)) (K : GG p l e room_1 s m #[Value.ref b] below meth c D H0 ev 4 (lw_Z below #[Value.ref b] s) σ2 1431 [(0, .ref b), (1, .ref x1), (2, .ref x2), (3, .int x3)] []) : GG p l e room_1 s m #[Value.ref b] below meth c D H0 ev 4 (lw_Z below #[Value.ref b] s) σ1 1386 [(0, .ref b), (1, .ref x1), (2, .ref x2), (3, .int x3)] [.int r] := by
  intro H locs ls hH hL hl
  refine lv_aload_n C.x C.b dL_law_1386 rfl (lv_at hl 2 rfl) ?_
  refine m_callVI (As := []) (rest := [.int r]) (v := r) C hH hL cv__law_173 (ct_X2_image l D H0 f2) c2 ⟨Nat.le_of_ble_eq_true rfl, Nat.le_of_ble_eq_true rfl⟩ rfl hl.1 rfl (Nat.le_of_ble_eq_true rfl) dL_law_1387 (fun H_1 locs_1 hH_1 hL_1 => ?_)
  refine lv_icmp_eq (tgt := 1431) C.x C.b dL_law_1390 (by decide) (fun q => ?_) (fun q => absurd rfl q)
  exact K H_1 locs_1 ls hH_1 hL_1 (lv_sub hl [0, 1, 2, 3] rfl)
set_option maxRecDepth 20000 in
theorem la_back (C : Cx p m meth c cL_law 4 s #[Value.ref b] R_law room_1 ev D H0 35 11482) (hsc : Sc ev b x3 a) {σ σ1 : Mm} {r : Int32} (c1 : isC σ x1 0 = some ()) (f1 : f_X0_back fu ev σ x1  = some (r, σ1)) (K : GG p l e room_1 s m #[Value.ref b] below meth c D H0 ev 4 (lw_Z below #[Value.ref b] s) σ1 1399 [(0, .ref b), (1, .ref x1), (2, .ref x2), (3, .int x3)] [.int r]) : GG p l e room_1 s m #[Value.ref b] below meth c D H0 ev 4 (lw_Z below #[Value.ref b] s) σ 1395 [(0, .ref b), (1, .ref x1), (2, .ref x2), (3, .int x3)] [] := by
  intro H locs ls hH hL hl
  refine lv_aload_n C.x C.b dL_law_1395 rfl (lv_at hl 1 rfl) ?_
  refine m_callVI (As := []) (rest := []) (v := r) C hH hL cv__law_174 (ct_X0_back l D H0 f1) c1 ⟨Nat.le_of_ble_eq_true rfl, Nat.le_of_ble_eq_true rfl⟩ rfl hl.1 rfl (Nat.le_of_ble_eq_true rfl) dL_law_1396 (fun H_1 locs_1 hH_1 hL_1 => ?_)
  exact K H_1 locs_1 ls hH_1 hL_1 (lv_sub hl [0, 1, 2, 3] rfl)
set_option maxRecDepth 20000 in
theorem lb_back (C : Cx p m meth c cL_law 4 s #[Value.ref b] R_law room_1 ev D H0 35 11482) (hsc : Sc ev b x3 a) {σ1 σ2 : Mm} {r : Int32} (c2 : isC σ1 x2 2 = some ()) (f2 : f_X2_back_2 fu ev σ1 x2  = some (r, σ2)) (K : GG p l e room_1 s m #[Value.ref b] below meth c D H0 ev 4 (lw_Z below #[Value.ref b] s) σ2 1431 [(0, .ref b), (1, .ref x1), (2, .ref x2), (3, .int x3)] []) : GG p l e room_1 s m #[Value.ref b] below meth c D H0 ev 4 (lw_Z below #[Value.ref b] s) σ1 1399 [(0, .ref b), (1, .ref x1), (2, .ref x2), (3, .int x3)] [.int r] := by
  intro H locs ls hH hL hl
  refine lv_aload_n C.x C.b dL_law_1399 rfl (lv_at hl 2 rfl) ?_
  refine m_callVI (As := []) (rest := [.int r]) (v := r) C hH hL cv__law_177 (ct_X2_back_2 l D H0 f2) c2 ⟨Nat.le_of_ble_eq_true rfl, Nat.le_of_ble_eq_true rfl⟩ rfl hl.1 rfl (Nat.le_of_ble_eq_true rfl) dL_law_1400 (fun H_1 locs_1 hH_1 hL_1 => ?_)
  refine lv_icmp_eq (tgt := 1431) C.x C.b dL_law_1403 (by decide) (fun q => ?_) (fun q => absurd rfl q)
  exact K H_1 locs_1 ls hH_1 hL_1 (lv_sub hl [0, 1, 2, 3] rfl)
set_option maxRecDepth 20000 in
theorem la_count (C : Cx p m meth c cL_law 4 s #[Value.ref b] R_law room_1 ev D H0 35 11482) (hsc : Sc ev b x3 a) {σ σ1 : Mm} {r : Int32} (c1 : isC σ x1 0 = some ()) (f1 : f_X0_count fu ev σ x1 (a 1) = some (r, σ1)) (K : GG p l e room_1 s m #[Value.ref b] below meth c D H0 ev 4 (lw_Z below #[Value.ref b] s) σ1 1417 [(0, .ref b), (1, .ref x1), (2, .ref x2), (3, .int x3)] [.int r]) : GG p l e room_1 s m #[Value.ref b] below meth c D H0 ev 4 (lw_Z below #[Value.ref b] s) σ 1408 [(0, .ref b), (1, .ref x1), (2, .ref x2), (3, .int x3)] [] := by
  intro H locs ls hH hL hl
  refine lv_aload_n C.x C.b dL_law_1408 rfl (lv_at hl 1 rfl) ?_
  refine lv_aload_n C.x C.b dL_law_1409 rfl (lv_at hl 0 rfl) ?_
  refine lv_iload_n C.x C.b dL_law_1410 rfl (lv_at hl 3 rfl) ?_
  refine lv_iconst (v := 1) C.x C.b dL_law_1411 ki_1 ?_
  refine lv_iadd C.x C.b dL_law_1412 ?_
  refine m_iald C hH (hsc.2 _ (hH.2.2.2.2.2.2.2 _ hsc.1)).2.1 dL_law_1413 ?_
  refine m_callVI (As := [.int (a 1)]) (rest := []) (v := r) C hH hL cv__law_178 (ct_X0_count l D H0 f1) c1 ⟨Nat.le_of_ble_eq_true rfl, Nat.le_of_ble_eq_true rfl⟩ rfl hl.1 rfl (Nat.le_of_ble_eq_true rfl) dL_law_1414 (fun H_1 locs_1 hH_1 hL_1 => ?_)
  exact K H_1 locs_1 ls hH_1 hL_1 (lv_sub hl [0, 1, 2, 3] rfl)
set_option maxRecDepth 20000 in
theorem lb_count (C : Cx p m meth c cL_law 4 s #[Value.ref b] R_law room_1 ev D H0 35 11482) (hsc : Sc ev b x3 a) {σ1 σ2 : Mm} {r : Int32} (c2 : isC σ1 x2 2 = some ()) (f2 : f_X2_count fu ev σ1 x2 (a 1) = some (r, σ2)) (K : GG p l e room_1 s m #[Value.ref b] below meth c D H0 ev 4 (lw_Z below #[Value.ref b] s) σ2 1431 [(0, .ref b), (1, .ref x1), (2, .ref x2), (3, .int x3)] []) : GG p l e room_1 s m #[Value.ref b] below meth c D H0 ev 4 (lw_Z below #[Value.ref b] s) σ1 1417 [(0, .ref b), (1, .ref x1), (2, .ref x2), (3, .int x3)] [.int r] := by
  intro H locs ls hH hL hl
  refine lv_aload_n C.x C.b dL_law_1417 rfl (lv_at hl 2 rfl) ?_
  refine lv_aload_n C.x C.b dL_law_1418 rfl (lv_at hl 0 rfl) ?_
  refine lv_iload_n C.x C.b dL_law_1419 rfl (lv_at hl 3 rfl) ?_
  refine lv_iconst (v := 1) C.x C.b dL_law_1420 ki_1 ?_
  refine lv_iadd C.x C.b dL_law_1421 ?_
  refine m_iald C hH (hsc.2 _ (hH.2.2.2.2.2.2.2 _ hsc.1)).2.1 dL_law_1422 ?_
  refine m_callVI (As := [.int (a 1)]) (rest := [.int r]) (v := r) C hH hL cv__law_181 (ct_X2_count l D H0 f2) c2 ⟨Nat.le_of_ble_eq_true rfl, Nat.le_of_ble_eq_true rfl⟩ rfl hl.1 rfl (Nat.le_of_ble_eq_true rfl) dL_law_1423 (fun H_1 locs_1 hH_1 hL_1 => ?_)
  refine lv_icmp_eq (tgt := 1431) C.x C.b dL_law_1426 (by decide) (fun q => ?_) (fun q => absurd rfl q)
  exact K H_1 locs_1 ls hH_1 hL_1 (lv_sub hl [0, 1, 2, 3] rfl)
theorem law_tail (C : Cx p m meth c cL_law 4 s #[Value.ref b] R_law room_1 ev D H0 35 11482) (hsc : Sc ev b x3 a) {σ : Mm} (K : GG p l e room_1 s m #[Value.ref b] below meth c D H0 ev 4 (lw_Z below #[Value.ref b] s) σ 18 [(0, .ref b), (1, .ref x1), (2, .ref x2), (3, .int (x3 + (7 : Int32)))] []) : GG p l e room_1 s m #[Value.ref b] below meth c D H0 ev 4 (lw_Z below #[Value.ref b] s) σ 1431 [(0, .ref b), (1, .ref x1), (2, .ref x2), (3, .int x3)] [] := by
  intro H locs ls hH hL hl
  refine lv_iinc (v := x3 + (7 : Int32)) (lv' := [(3, .int (x3 + (7 : Int32))), (0, .ref b), (1, .ref x1), (2, .ref x2)]) C.x C.b dL_law_1431 hl (k := 3) rfl (by rw [ki_7]) (by decide) rfl (fun ls hl => ?_)
  refine lv_goto (tgt := 18) C.x C.b dL_law_1434 (by decide) ?_
  exact K H locs ls hH hL (lv_sub hl [1, 2, 3, 0] rfl)
theorem ls_list (hlt : l.stackTraces = false) (C : Cx p m meth c cL_law 4 s #[Value.ref b] R_law room_1 ev D H0 35 11482) (hsc : Sc ev b x3 a) {σ : Mm} {K : Mm → Prop} (h : lc_list fu ev σ x1 x2 a K) (hK : ∀ σ2 : Mm, K σ2 → GG p l e room_1 s m #[Value.ref b] below meth c D H0 ev 4 (lw_Z below #[Value.ref b] s) σ2 1431 [(0, .ref b), (1, .ref x1), (2, .ref x2), (3, .int x3)] []) : GG p l e room_1 s m #[Value.ref b] below meth c D H0 ev 4 (lw_Z below #[Value.ref b] s) σ 1143 [(0, .ref b), (1, .ref x1), (2, .ref x2), (3, .int x3)] [] := by
  obtain ⟨c1, ⟨r, σ1, f1, c2, σ2, f2, k⟩ | ⟨v, s2, v1, h1, hv, hv1, hn, hroom, hP⟩⟩ := h
  · exact la_list C hsc c1 (ct_X0_list l D H0 f1) (fun v s1 hv => ⟨r, hv.1, by rw [hv.2]; exact lb_list C hsc c2 f2 (hK σ2 k)⟩)
  · refine la_list C hsc c1 (cx_list l hlt D H0 h1 hv hv1 hn hroom) (fun v s1 hv => ?_)
    obtain ⟨e, k, j, q1, q2, rfl⟩ := hv
    obtain ⟨c2, σ2, f2, kk⟩ := hP k j q1 q2
    exact ⟨-14, e, lb_list C hsc c2 f2 (hK σ2 kk)⟩
theorem ls_set (hlt : l.stackTraces = false) (C : Cx p m meth c cL_law 4 s #[Value.ref b] R_law room_1 ev D H0 35 11482) (hsc : Sc ev b x3 a) {σ : Mm} {K : Mm → Prop} (h : lc_set fu ev σ x1 x2 a K) (hK : ∀ σ2 : Mm, K σ2 → GG p l e room_1 s m #[Value.ref b] below meth c D H0 ev 4 (lw_Z below #[Value.ref b] s) σ2 1431 [(0, .ref b), (1, .ref x1), (2, .ref x2), (3, .int x3)] []) : GG p l e room_1 s m #[Value.ref b] below meth c D H0 ev 4 (lw_Z below #[Value.ref b] s) σ 1176 [(0, .ref b), (1, .ref x1), (2, .ref x2), (3, .int x3)] [] := by
  obtain ⟨c1, ⟨r, σ1, f1, c2, σ2, f2, k⟩ | ⟨v, s2, a2, h1, hv, hv1, hh⟩⟩ := h
  · exact la_set C hsc c1 (ct_X0_set l D H0 f1) (fun v s1 hv => ⟨r, hv.1, by rw [hv.2]; exact lb_set C hsc c2 f2 (hK σ2 k)⟩)
  · rcases hh with ⟨hv3, hroom, hP⟩ | ⟨a4, n, f, hv3, hna, ha, hn, hout, hroom, hP⟩
    · refine la_set (P := fun v σ1 => v = some (.int (-11)) ∧ ∃ k j : Nat, k ≤ 1 ∧ j ≤ 8 ∧ σ1 = bump s2 k j) C hsc c1 (cx_set l D H0 h1 hv (fun p e R s m below meth c C hr htb hH => x_set_N hlt C hr htb hH hv1 hv3 hroom (fun k j a b => ⟨rfl, k, j, a, b, rfl⟩))) (fun v s1 hv => ?_)
      obtain ⟨e, k, j, q1, q2, rfl⟩ := hv
      obtain ⟨c2, σ2, f2, kk⟩ := hP k j q1 q2
      exact ⟨-11, e, lb_set C hsc c2 f2 (hK σ2 kk)⟩
    · refine la_set (P := fun v σ1 => v = some (.int (-13)) ∧ ∃ k j : Nat, k ≤ 3 ∧ j ≤ 222 ∧ σ1 = bump s2 k j) C hsc c1 (cx_set l D H0 h1 hv (fun p e R s m below meth c C hr htb hH => x_set_O hlt C hr htb hH hv1 hv3 hna ha hn hout hroom (fun k j a b => ⟨rfl, k, j, a, b, rfl⟩))) (fun v s1 hv => ?_)
      obtain ⟨e, k, j, q1, q2, rfl⟩ := hv
      obtain ⟨c2, σ2, f2, kk⟩ := hP k j q1 q2
      exact ⟨-13, e, lb_set C hsc c2 f2 (hK σ2 kk)⟩
theorem ls_get (hlt : l.stackTraces = false) (C : Cx p m meth c cL_law 4 s #[Value.ref b] R_law room_1 ev D H0 35 11482) (hsc : Sc ev b x3 a) {σ : Mm} {K : Mm → Prop} (h : lc_get fu ev σ x1 x2 a K) (hK : ∀ σ2 : Mm, K σ2 → GG p l e room_1 s m #[Value.ref b] below meth c D H0 ev 4 (lw_Z below #[Value.ref b] s) σ2 1431 [(0, .ref b), (1, .ref x1), (2, .ref x2), (3, .int x3)] []) : GG p l e room_1 s m #[Value.ref b] below meth c D H0 ev 4 (lw_Z below #[Value.ref b] s) σ 1249 [(0, .ref b), (1, .ref x1), (2, .ref x2), (3, .int x3)] [] := by
  obtain ⟨c1, ⟨r, σ1, f1, c2, σ2, f2, k⟩ | ⟨v, s2, a2, h1, hv, hv1, hh⟩⟩ := h
  · exact la_get C hsc c1 (ct_X0_get l D H0 f1) (fun v s1 hv => ⟨r, hv.1, by rw [hv.2]; exact lb_get C hsc c2 f2 (hK σ2 k)⟩)
  · rcases hh with ⟨hv3, hroom, hP⟩ | ⟨a4, n, f, hv3, hna, ha, hn, hout, hroom, hP⟩
    · refine la_get (P := fun v σ1 => v = some (.long (-9223372036854775808)) ∧ ∃ k j : Nat, k ≤ 1 ∧ j ≤ 8 ∧ σ1 = bump s2 k j) C hsc c1 (cx_get l D H0 h1 hv (fun p e R s m below meth c C hr htb hH => x_get_N hlt C hr htb hH hv1 hv3 hroom (fun k j a b => ⟨rfl, k, j, a, b, rfl⟩))) (fun v s1 hv => ?_)
      obtain ⟨e, k, j, q1, q2, rfl⟩ := hv
      obtain ⟨c2, σ2, f2, kk⟩ := hP k j q1 q2
      exact ⟨-9223372036854775808, e, lb_get C hsc c2 f2 (hK σ2 kk)⟩
    · refine la_get (P := fun v σ1 => v = some (.long (-9223372036854775808)) ∧ ∃ k j : Nat, k ≤ 3 ∧ j ≤ 222 ∧ σ1 = bump s2 k j) C hsc c1 (cx_get l D H0 h1 hv (fun p e R s m below meth c C hr htb hH => x_get_O hlt C hr htb hH hv1 hv3 hna ha hn hout hroom (fun k j a b => ⟨rfl, k, j, a, b, rfl⟩))) (fun v s1 hv => ?_)
      obtain ⟨e, k, j, q1, q2, rfl⟩ := hv
      obtain ⟨c2, σ2, f2, kk⟩ := hP k j q1 q2
      exact ⟨-9223372036854775808, e, lb_get C hsc c2 f2 (hK σ2 kk)⟩
set_option maxHeartbeats 4000000 in
set_option maxRecDepth 20000 in
theorem law_sw (hlt : l.stackTraces = false) (C : Cx p m meth c cL_law 4 s #[Value.ref b] R_law room_1 ev D H0 35 11482) (hsc : Sc ev b x3 a) {σ : Mm} {K : Mm → Prop} (h : St fu ev σ x1 x2 a K) (hK : ∀ σ2 : Mm, K σ2 → GG p l e room_1 s m #[Value.ref b] below meth c D H0 ev 4 (lw_Z below #[Value.ref b] s) σ2 1431 [(0, .ref b), (1, .ref x1), (2, .ref x2), (3, .int x3)] []) : GG p l e room_1 s m #[Value.ref b] below meth c D H0 ev 4 (lw_Z below #[Value.ref b] s) σ 27 [(0, .ref b), (1, .ref x1), (2, .ref x2), (3, .int x3)] [] := by
  intro H locs ls hH hL hl
  unfold St at h
  refine lv_aload_n C.x C.b dL_law_27 rfl (lv_at hl 0 rfl) ?_
  refine lv_iload_n C.x C.b dL_law_28 rfl (lv_at hl 3 rfl) ?_
  refine m_iald C hH (hsc.2 _ (hH.2.2.2.2.2.2.2 _ hsc.1)).1 dL_law_29 ?_
  refine lv_bipush (v := 63) C.x C.b dL_law_30 kb_63 ?_
  refine lv_iand C.x C.b dL_law_32 ?_
  by_cases q0 : (a 0) &&& (63 : Int32) = (0 : Int32)
  · rw [if_pos q0] at h
    refine lv_tableIn (off := 171) (tgt := 204) C.x C.b dL_law_33 (by rw [q0]; decide) (by rw [q0]; decide) (by rw [q0]; rfl) (by decide) ?_
    obtain ⟨r, σ1, σ2, c1, f1, c2, f2, k⟩ := h
    exact la_cell C hsc c1 f1 (lb_cell C hsc c2 f2 (hK σ2 k)) H locs ls hH hL hl
  rw [if_neg q0] at h
  by_cases q1 : (a 0) &&& (63 : Int32) = (1 : Int32)
  · rw [if_pos q1] at h
    refine lv_tableIn (off := 246) (tgt := 279) C.x C.b dL_law_33 (by rw [q1]; decide) (by rw [q1]; decide) (by rw [q1]; rfl) (by decide) ?_
    obtain ⟨r, σ1, σ2, c1, f1, c2, f2, k⟩ := h
    exact la_drop C hsc c1 f1 (lb_drop C hsc c2 f2 (hK σ2 k)) H locs ls hH hL hl
  rw [if_neg q1] at h
  by_cases q2 : (a 0) &&& (63 : Int32) = (2 : Int32)
  · rw [if_pos q2] at h
    refine lv_tableIn (off := 259) (tgt := 292) C.x C.b dL_law_33 (by rw [q2]; decide) (by rw [q2]; decide) (by rw [q2]; rfl) (by decide) ?_
    obtain ⟨r, σ1, σ2, c1, f1, c2, f2, k⟩ := h
    exact la_add C hsc c1 f1 (lb_add C hsc c2 f2 (hK σ2 k)) H locs ls hH hL hl
  rw [if_neg q2] at h
  by_cases q3 : (a 0) &&& (63 : Int32) = (3 : Int32)
  · rw [if_pos q3] at h
    refine lv_tableIn (off := 312) (tgt := 345) C.x C.b dL_law_33 (by rw [q3]; decide) (by rw [q3]; decide) (by rw [q3]; rfl) (by decide) ?_
    obtain ⟨r, σ1, σ2, c1, f1, c2, f2, k⟩ := h
    exact la_swap C hsc c1 f1 (lb_swap C hsc c2 f2 (hK σ2 k)) H locs ls hH hL hl
  rw [if_neg q3] at h
  by_cases q4 : (a 0) &&& (63 : Int32) = (4 : Int32)
  · rw [if_pos q4] at h
    refine lv_tableIn (off := 355) (tgt := 388) C.x C.b dL_law_33 (by rw [q4]; decide) (by rw [q4]; decide) (by rw [q4]; rfl) (by decide) ?_
    obtain ⟨r, σ1, σ2, c1, f1, c2, f2, k⟩ := h
    exact la_number C hsc c1 f1 (lb_number C hsc c2 f2 (hK σ2 k)) H locs ls hH hL hl
  rw [if_neg q4] at h
  by_cases q5 : (a 0) &&& (63 : Int32) = (5 : Int32)
  · rw [if_pos q5] at h
    refine lv_tableIn (off := 389) (tgt := 422) C.x C.b dL_law_33 (by rw [q5]; decide) (by rw [q5]; decide) (by rw [q5]; rfl) (by decide) ?_
    obtain ⟨r, σ1, σ2, c1, f1, c2, f2, k⟩ := h
    exact la_change C hsc c1 f1 (lb_change C hsc c2 f2 (hK σ2 k)) H locs ls hH hL hl
  rw [if_neg q5] at h
  by_cases q6 : (a 0) &&& (63 : Int32) = (6 : Int32)
  · rw [if_pos q6] at h
    refine lv_tableIn (off := 433) (tgt := 466) C.x C.b dL_law_33 (by rw [q6]; decide) (by rw [q6]; decide) (by rw [q6]; rfl) (by decide) ?_
    obtain ⟨r, σ1, σ2, c1, f1, c2, f2, k⟩ := h
    exact la_fails C hsc c1 f1 (lb_fails C hsc c2 f2 (hK σ2 k)) H locs ls hH hL hl
  rw [if_neg q6] at h
  by_cases q7 : (a 0) &&& (63 : Int32) = (7 : Int32)
  · rw [if_pos q7] at h
    refine lv_tableIn (off := 456) (tgt := 489) C.x C.b dL_law_33 (by rw [q7]; decide) (by rw [q7]; decide) (by rw [q7]; rfl) (by decide) ?_
    obtain ⟨r, σ1, σ2, c1, f1, c2, f2, k⟩ := h
    exact la_step C hsc c1 f1 (lb_step C hsc c2 f2 (hK σ2 k)) H locs ls hH hL hl
  rw [if_neg q7] at h
  by_cases q8 : (a 0) &&& (63 : Int32) = (8 : Int32)
  · rw [if_pos q8] at h
    refine lv_tableIn (off := 479) (tgt := 512) C.x C.b dL_law_33 (by rw [q8]; decide) (by rw [q8]; decide) (by rw [q8]; rfl) (by decide) ?_
    obtain ⟨r, σ1, σ2, c1, f1, c2, f2, k⟩ := h
    exact la_reduce C hsc c1 f1 (lb_reduce C hsc c2 f2 (hK σ2 k)) H locs ls hH hL hl
  rw [if_neg q8] at h
  by_cases q9 : (a 0) &&& (63 : Int32) = (9 : Int32)
  · rw [if_pos q9] at h
    refine lv_tableIn (off := 502) (tgt := 535) C.x C.b dL_law_33 (by rw [q9]; decide) (by rw [q9]; decide) (by rw [q9]; rfl) (by decide) ?_
    obtain ⟨r, σ1, σ2, c1, f1, c2, f2, k⟩ := h
    exact la_normal C hsc c1 f1 (lb_normal C hsc c2 f2 (hK σ2 k)) H locs ls hH hL hl
  rw [if_neg q9] at h
  by_cases q10 : (a 0) &&& (63 : Int32) = (10 : Int32)
  · rw [if_pos q10] at h
    refine lv_tableIn (off := 536) (tgt := 569) C.x C.b dL_law_33 (by rw [q10]; decide) (by rw [q10]; decide) (by rw [q10]; rfl) (by decide) ?_
    obtain ⟨r, σ1, σ2, c1, f1, c2, f2, k⟩ := h
    exact la_log C hsc c1 f1 (lb_log C hsc c2 f2 (hK σ2 k)) H locs ls hH hL hl
  rw [if_neg q10] at h
  by_cases q11 : (a 0) &&& (63 : Int32) = (11 : Int32)
  · rw [if_pos q11] at h
    refine lv_tableIn (off := 559) (tgt := 592) C.x C.b dL_law_33 (by rw [q11]; decide) (by rw [q11]; decide) (by rw [q11]; rfl) (by decide) ?_
    obtain ⟨r, σ1, σ2, c1, f1, c2, f2, k⟩ := h
    exact la_forget C hsc c1 f1 (lb_forget C hsc c2 f2 (hK σ2 k)) H locs ls hH hL hl
  rw [if_neg q11] at h
  by_cases q12 : (a 0) &&& (63 : Int32) = (12 : Int32)
  · rw [if_pos q12] at h
    refine lv_tableIn (off := 582) (tgt := 615) C.x C.b dL_law_33 (by rw [q12]; decide) (by rw [q12]; decide) (by rw [q12]; rfl) (by decide) ?_
    obtain ⟨r, σ1, σ2, c1, f1, c2, f2, k⟩ := h
    exact la_same C hsc c1 f1 (lb_same C hsc c2 f2 (hK σ2 k)) H locs ls hH hL hl
  rw [if_neg q12] at h
  by_cases q13 : (a 0) &&& (63 : Int32) = (13 : Int32)
  · rw [if_pos q13] at h
    refine lv_tableIn (off := 615) (tgt := 648) C.x C.b dL_law_33 (by rw [q13]; decide) (by rw [q13]; decide) (by rw [q13]; rfl) (by decide) ?_
    obtain ⟨r, σ1, σ2, c1, f1, c2, f2, k⟩ := h
    exact la_bridge C hsc c1 f1 (lb_bridge C hsc c2 f2 (hK σ2 k)) H locs ls hH hL hl
  rw [if_neg q13] at h
  by_cases q14 : (a 0) &&& (63 : Int32) = (14 : Int32)
  · rw [if_pos q14] at h
    refine lv_tableIn (off := 669) (tgt := 702) C.x C.b dL_law_33 (by rw [q14]; decide) (by rw [q14]; decide) (by rw [q14]; rfl) (by decide) ?_
    obtain ⟨r, σ1, σ2, c1, f1, c2, f2, k⟩ := h
    exact la_turns C hsc c1 f1 (lb_turns C hsc c2 f2 (hK σ2 k)) H locs ls hH hL hl
  rw [if_neg q14] at h
  by_cases q15 : (a 0) &&& (63 : Int32) = (15 : Int32)
  · rw [if_pos q15] at h
    refine lv_tableIn (off := 702) (tgt := 735) C.x C.b dL_law_33 (by rw [q15]; decide) (by rw [q15]; decide) (by rw [q15]; rfl) (by decide) ?_
    obtain ⟨r, σ1, σ2, c1, f1, c2, f2, k⟩ := h
    exact la_system C hsc c1 f1 (lb_system C hsc c2 f2 (hK σ2 k)) H locs ls hH hL hl
  rw [if_neg q15] at h
  by_cases q16 : (a 0) &&& (63 : Int32) = (16 : Int32)
  · rw [if_pos q16] at h
    refine lv_tableIn (off := 725) (tgt := 758) C.x C.b dL_law_33 (by rw [q16]; decide) (by rw [q16]; decide) (by rw [q16]; rfl) (by decide) ?_
    obtain ⟨r, σ1, σ2, c1, f1, c2, f2, k⟩ := h
    exact la_shell C hsc c1 f1 (lb_shell C hsc c2 f2 (hK σ2 k)) H locs ls hH hL hl
  rw [if_neg q16] at h
  by_cases q17 : (a 0) &&& (63 : Int32) = (17 : Int32)
  · rw [if_pos q17] at h
    refine lv_tableIn (off := 768) (tgt := 801) C.x C.b dL_law_33 (by rw [q17]; decide) (by rw [q17]; decide) (by rw [q17]; rfl) (by decide) ?_
    obtain ⟨r, σ1, σ2, c1, f1, c2, f2, k⟩ := h
    exact la_squares C hsc c1 f1 (lb_squares C hsc c2 f2 (hK σ2 k)) H locs ls hH hL hl
  rw [if_neg q17] at h
  by_cases q18 : (a 0) &&& (63 : Int32) = (18 : Int32)
  · rw [if_pos q18] at h
    refine lv_tableIn (off := 792) (tgt := 825) C.x C.b dL_law_33 (by rw [q18]; decide) (by rw [q18]; decide) (by rw [q18]; rfl) (by decide) ?_
    obtain ⟨r, σ1, σ2, c1, f1, c2, f2, k⟩ := h
    exact la_within C hsc c1 f1 (lb_within C hsc c2 f2 (hK σ2 k)) H locs ls hH hL hl
  rw [if_neg q18] at h
  by_cases q19 : (a 0) &&& (63 : Int32) = (19 : Int32)
  · rw [if_pos q19] at h
    refine lv_tableIn (off := 836) (tgt := 869) C.x C.b dL_law_33 (by rw [q19]; decide) (by rw [q19]; decide) (by rw [q19]; rfl) (by decide) ?_
    obtain ⟨r, σ1, σ2, c1, f1, c2, f2, k⟩ := h
    exact la_holds C hsc c1 f1 (lb_holds C hsc c2 f2 (hK σ2 k)) H locs ls hH hL hl
  rw [if_neg q19] at h
  by_cases q20 : (a 0) &&& (63 : Int32) = (20 : Int32)
  · rw [if_pos q20] at h
    refine lv_tableIn (off := 879) (tgt := 912) C.x C.b dL_law_33 (by rw [q20]; decide) (by rw [q20]; decide) (by rw [q20]; rfl) (by decide) ?_
    obtain ⟨r, σ1, σ2, c1, f1, c2, f2, k⟩ := h
    exact la_blunt C hsc c1 f1 (lb_blunt C hsc c2 f2 (hK σ2 k)) H locs ls hH hL hl
  rw [if_neg q20] at h
  by_cases q21 : (a 0) &&& (63 : Int32) = (21 : Int32)
  · rw [if_pos q21] at h
    refine lv_tableIn (off := 913) (tgt := 946) C.x C.b dL_law_33 (by rw [q21]; decide) (by rw [q21]; decide) (by rw [q21]; rfl) (by decide) ?_
    obtain ⟨r, σ1, σ2, c1, f1, c2, f2, k⟩ := h
    exact la_waits C hsc c1 f1 (lb_waits C hsc c2 f2 (hK σ2 k)) H locs ls hH hL hl
  rw [if_neg q21] at h
  by_cases q22 : (a 0) &&& (63 : Int32) = (22 : Int32)
  · rw [if_pos q22] at h
    refine lv_tableIn (off := 936) (tgt := 969) C.x C.b dL_law_33 (by rw [q22]; decide) (by rw [q22]; decide) (by rw [q22]; rfl) (by decide) ?_
    obtain ⟨r, σ1, σ2, c1, f1, c2, f2, k⟩ := h
    exact la_leaves C hsc c1 f1 (lb_leaves C hsc c2 f2 (hK σ2 k)) H locs ls hH hL hl
  rw [if_neg q22] at h
  by_cases q23 : (a 0) &&& (63 : Int32) = (23 : Int32)
  · rw [if_pos q23] at h
    refine lv_tableIn (off := 959) (tgt := 992) C.x C.b dL_law_33 (by rw [q23]; decide) (by rw [q23]; decide) (by rw [q23]; rfl) (by decide) ?_
    obtain ⟨r, σ1, σ2, c1, f1, c2, f2, k⟩ := h
    exact la_works C hsc c1 f1 (lb_works C hsc c2 f2 (hK σ2 k)) H locs ls hH hL hl
  rw [if_neg q23] at h
  by_cases q24 : (a 0) &&& (63 : Int32) = (24 : Int32)
  · rw [if_pos q24] at h
    refine lv_tableIn (off := 982) (tgt := 1015) C.x C.b dL_law_33 (by rw [q24]; decide) (by rw [q24]; decide) (by rw [q24]; rfl) (by decide) ?_
    obtain ⟨r, σ1, σ2, c1, f1, c2, f2, k⟩ := h
    exact la_line C hsc c1 f1 (lb_line C hsc c2 f2 (hK σ2 k)) H locs ls hH hL hl
  rw [if_neg q24] at h
  by_cases q25 : (a 0) &&& (63 : Int32) = (25 : Int32)
  · rw [if_pos q25] at h
    refine lv_tableIn (off := 1005) (tgt := 1038) C.x C.b dL_law_33 (by rw [q25]; decide) (by rw [q25]; decide) (by rw [q25]; rfl) (by decide) ?_
    obtain ⟨r, σ1, σ2, c1, f1, c2, f2, k⟩ := h
    exact la_clears C hsc c1 f1 (lb_clears C hsc c2 f2 (hK σ2 k)) H locs ls hH hL hl
  rw [if_neg q25] at h
  by_cases q26 : (a 0) &&& (63 : Int32) = (26 : Int32)
  · rw [if_pos q26] at h
    refine lv_tableIn (off := 1018) (tgt := 1051) C.x C.b dL_law_33 (by rw [q26]; decide) (by rw [q26]; decide) (by rw [q26]; rfl) (by decide) ?_
    obtain ⟨r, σ1, σ2, c1, f1, c2, f2, k⟩ := h
    exact la_feed C hsc c1 f1 (lb_feed C hsc c2 f2 (hK σ2 k)) H locs ls hH hL hl
  rw [if_neg q26] at h
  by_cases q27 : (a 0) &&& (63 : Int32) = (27 : Int32)
  · rw [if_pos q27] at h
    refine lv_tableIn (off := 1041) (tgt := 1074) C.x C.b dL_law_33 (by rw [q27]; decide) (by rw [q27]; decide) (by rw [q27]; rfl) (by decide) ?_
    obtain ⟨r, σ1, σ2, c1, f1, c2, f2, k⟩ := h
    exact la_reads C hsc c1 (ct_X0_reads l D H0 f1) (fun v s1 hv => ⟨r, hv.1, by rw [hv.2]; exact lb_reads C hsc c2 f2 (hK σ2 k)⟩) H locs ls hH hL hl
  rw [if_neg q27] at h
  by_cases q28 : (a 0) &&& (63 : Int32) = (28 : Int32)
  · rw [if_pos q28] at h
    refine lv_tableIn (off := 1054) (tgt := 1087) C.x C.b dL_law_33 (by rw [q28]; decide) (by rw [q28]; decide) (by rw [q28]; rfl) (by decide) ?_
    obtain ⟨r, σ1, σ2, c1, f1, c2, f2, k⟩ := h
    exact la_prints C hsc c1 f1 (lb_prints C hsc c2 f2 (hK σ2 k)) H locs ls hH hL hl
  rw [if_neg q28] at h
  by_cases q29 : (a 0) &&& (63 : Int32) = (29 : Int32)
  · rw [if_pos q29] at h
    refine lv_tableIn (off := 1087) (tgt := 1120) C.x C.b dL_law_33 (by rw [q29]; decide) (by rw [q29]; decide) (by rw [q29]; rfl) (by decide) ?_
    obtain ⟨r, σ1, σ2, c1, f1, c2, f2, k⟩ := h
    exact la_paper C hsc c1 f1 (lb_paper C hsc c2 f2 (hK σ2 k)) H locs ls hH hL hl
  rw [if_neg q29] at h
  by_cases q30 : (a 0) &&& (63 : Int32) = (30 : Int32)
  · rw [if_pos q30] at h
    refine lv_tableIn (off := 1110) (tgt := 1143) C.x C.b dL_law_33 (by rw [q30]; decide) (by rw [q30]; decide) (by rw [q30]; rfl) (by decide) ?_
    exact ls_list hlt C hsc h hK H locs ls hH hL hl
  rw [if_neg q30] at h
  by_cases q31 : (a 0) &&& (63 : Int32) = (31 : Int32)
  · rw [if_pos q31] at h
    refine lv_tableIn (off := 1143) (tgt := 1176) C.x C.b dL_law_33 (by rw [q31]; decide) (by rw [q31]; decide) (by rw [q31]; rfl) (by decide) ?_
    exact ls_set hlt C hsc h hK H locs ls hH hL hl
  rw [if_neg q31] at h
  by_cases q32 : (a 0) &&& (63 : Int32) = (32 : Int32)
  · rw [if_pos q32] at h
    refine lv_tableIn (off := 1216) (tgt := 1249) C.x C.b dL_law_33 (by rw [q32]; decide) (by rw [q32]; decide) (by rw [q32]; rfl) (by decide) ?_
    exact ls_get hlt C hsc h hK H locs ls hH hL hl
  rw [if_neg q32] at h
  by_cases q33 : (a 0) &&& (63 : Int32) = (33 : Int32)
  · rw [if_pos q33] at h
    refine lv_tableIn (off := 1250) (tgt := 1283) C.x C.b dL_law_33 (by rw [q33]; decide) (by rw [q33]; decide) (by rw [q33]; rfl) (by decide) ?_
    obtain ⟨r, σ1, σ2, c1, f1, c2, f2, k⟩ := h
    exact la_into C hsc c1 f1 (lb_into C hsc c2 f2 (hK σ2 k)) H locs ls hH hL hl
  rw [if_neg q33] at h
  by_cases q34 : (a 0) &&& (63 : Int32) = (34 : Int32)
  · rw [if_pos q34] at h
    refine lv_tableIn (off := 1303) (tgt := 1336) C.x C.b dL_law_33 (by rw [q34]; decide) (by rw [q34]; decide) (by rw [q34]; rfl) (by decide) ?_
    obtain ⟨r, σ1, σ2, c1, f1, c2, f2, k⟩ := h
    exact la_from C hsc c1 f1 (lb_from C hsc c2 f2 (hK σ2 k)) H locs ls hH hL hl
  rw [if_neg q34] at h
  by_cases q35 : (a 0) &&& (63 : Int32) = (35 : Int32)
  · rw [if_pos q35] at h
    refine lv_tableIn (off := 1336) (tgt := 1369) C.x C.b dL_law_33 (by rw [q35]; decide) (by rw [q35]; decide) (by rw [q35]; rfl) (by decide) ?_
    obtain ⟨r, σ1, σ2, c1, f1, c2, f2, k⟩ := h
    exact la_undo C hsc c1 f1 (lb_undo C hsc c2 f2 (hK σ2 k)) H locs ls hH hL hl
  rw [if_neg q35] at h
  by_cases q36 : (a 0) &&& (63 : Int32) = (36 : Int32)
  · rw [if_pos q36] at h
    refine lv_tableIn (off := 1349) (tgt := 1382) C.x C.b dL_law_33 (by rw [q36]; decide) (by rw [q36]; decide) (by rw [q36]; rfl) (by decide) ?_
    obtain ⟨r, σ1, σ2, c1, f1, c2, f2, k⟩ := h
    exact la_image C hsc c1 f1 (lb_image C hsc c2 f2 (hK σ2 k)) H locs ls hH hL hl
  rw [if_neg q36] at h
  by_cases q37 : (a 0) &&& (63 : Int32) = (37 : Int32)
  · rw [if_pos q37] at h
    refine lv_tableIn (off := 1362) (tgt := 1395) C.x C.b dL_law_33 (by rw [q37]; decide) (by rw [q37]; decide) (by rw [q37]; rfl) (by decide) ?_
    obtain ⟨r, σ1, σ2, c1, f1, c2, f2, k⟩ := h
    exact la_back C hsc c1 f1 (lb_back C hsc c2 f2 (hK σ2 k)) H locs ls hH hL hl
  rw [if_neg q37] at h
  by_cases q38 : (a 0) &&& (63 : Int32) = (38 : Int32)
  · rw [if_pos q38] at h
    refine lv_tableIn (off := 1375) (tgt := 1408) C.x C.b dL_law_33 (by rw [q38]; decide) (by rw [q38]; decide) (by rw [q38]; rfl) (by decide) ?_
    obtain ⟨r, σ1, σ2, c1, f1, c2, f2, k⟩ := h
    exact la_count C hsc c1 f1 (lb_count C hsc c2 f2 (hK σ2 k)) H locs ls hH hL hl
  rw [if_neg q38] at h
  have n0 := lv_neT q0 (a := 0) (by decide)
  have n1 := lv_neT q1 (a := 1) (by decide)
  have n2 := lv_neT q2 (a := 2) (by decide)
  have n3 := lv_neT q3 (a := 3) (by decide)
  have n4 := lv_neT q4 (a := 4) (by decide)
  have n5 := lv_neT q5 (a := 5) (by decide)
  have n6 := lv_neT q6 (a := 6) (by decide)
  have n7 := lv_neT q7 (a := 7) (by decide)
  have n8 := lv_neT q8 (a := 8) (by decide)
  have n9 := lv_neT q9 (a := 9) (by decide)
  have n10 := lv_neT q10 (a := 10) (by decide)
  have n11 := lv_neT q11 (a := 11) (by decide)
  have n12 := lv_neT q12 (a := 12) (by decide)
  have n13 := lv_neT q13 (a := 13) (by decide)
  have n14 := lv_neT q14 (a := 14) (by decide)
  have n15 := lv_neT q15 (a := 15) (by decide)
  have n16 := lv_neT q16 (a := 16) (by decide)
  have n17 := lv_neT q17 (a := 17) (by decide)
  have n18 := lv_neT q18 (a := 18) (by decide)
  have n19 := lv_neT q19 (a := 19) (by decide)
  have n20 := lv_neT q20 (a := 20) (by decide)
  have n21 := lv_neT q21 (a := 21) (by decide)
  have n22 := lv_neT q22 (a := 22) (by decide)
  have n23 := lv_neT q23 (a := 23) (by decide)
  have n24 := lv_neT q24 (a := 24) (by decide)
  have n25 := lv_neT q25 (a := 25) (by decide)
  have n26 := lv_neT q26 (a := 26) (by decide)
  have n27 := lv_neT q27 (a := 27) (by decide)
  have n28 := lv_neT q28 (a := 28) (by decide)
  have n29 := lv_neT q29 (a := 29) (by decide)
  have n30 := lv_neT q30 (a := 30) (by decide)
  have n31 := lv_neT q31 (a := 31) (by decide)
  have n32 := lv_neT q32 (a := 32) (by decide)
  have n33 := lv_neT q33 (a := 33) (by decide)
  have n34 := lv_neT q34 (a := 34) (by decide)
  have n35 := lv_neT q35 (a := 35) (by decide)
  have n36 := lv_neT q36 (a := 36) (by decide)
  have n37 := lv_neT q37 (a := 37) (by decide)
  have n38 := lv_neT q38 (a := 38) (by decide)
  refine lv_tableOut (tgt := 1431) C.x C.b dL_law_33 (by omega) (by decide) ?_
  exact hK σ h H locs ls hH hL hl
theorem law_end (C : Cx p m meth c cL_law 4 s #[Value.ref b] R_law room_1 ev D H0 35 11482) (hr : meth.sig.returnType = ret) (he : ev.1 = s.heap.size ∧ ev.2.1 = s.heap.size + 603072 ∧ ev.2.2.1 = xtot s.heap + 7194730) {σ : Mm} {lv : List (Nat × Value)} : GG p l e room_1 s m #[Value.ref b] below meth c D H0 ev 4 (lw_Z below #[Value.ref b] s) σ 1437 lv [] := by
  intro H locs ls hH hL hl
  refine lv_iconst (v := 1) C.x C.b dL_law_1437 ki_1 ?_
  refine m_wide hH ?_
  refine va_forget (fun q hq => by rw [← he.1]; exact hL q hq) ?_
  rw [he.2.1, he.2.2, Nat.add_sub_cancel_left, Nat.add_sub_cancel_left]
  exact lw_ret C.x C.b hr C.2.2.2.2.2.2 dL_law_1438
theorem nI7 (j : Nat) : nI (7 * j) + (7 : Int32) = nI (7 * (j + 1)) := by
  rw [Nat.mul_add, ← nI_add]
  rfl
theorem lw_short {L j : Nat} (h2 : 7 * j ≤ L) (h : L < 7 * j + 7) (hL : L ≤ 448) : nI L - (7 : Int32) < nI (7 * j) := by
  rw [Int32.lt_iff_toInt_lt, show (7 : Int32) = nI 7 from rfl, pk_sub_toInt (by omega) (by omega), nI_toInt (by omega)]
  omega
/-- the script -/
theorem Sc_of {L : Nat} {xs : Nat → Int32} (hb : b < ev.1) (ho : ev.2.2.2.2 b = some (.inl (0, L, .inl xs))) {j : Nat} (hj : 7 * j + 7 ≤ L) (hL : L ≤ 448) : Sc ev b (nI (7 * j)) (fun k => xs (7 * j + k)) := by
  refine ⟨hb, fun σ hσ => ?_⟩
  have key : ∀ k : Nat, k < 7 → ∀ i : Int32, i = nI (7 * j + k) → aldI 0 σ b i = some (xs (7 * j + k)) := by
    intro k hk i hi
    have h1 : ¬ (i < 0 ∨ L ≤ i.toNatClampNeg) := by rw [hi]; exact vp_in_nI (n := 7 * j + k) (by omega) (by omega)
    have h2 : i.toNatClampNeg = 7 * j + k := by rw [hi]; exact nI_clamp (by omega)
    unfold aldI
    rw [hσ, ho]
    simp only [true_and]
    rw [if_pos h1, h2]
  have e : ∀ k : Nat, k < 7 → nI (7 * j) + nI k = nI (7 * j + k) := fun k _ => nI_add _ _
  exact ⟨key 0 (by omega) _ rfl, key 1 (by omega) _ (e 1 (by omega)), key 2 (by omega) _ (e 2 (by omega)), key 3 (by omega) _ (e 3 (by omega)), key 4 (by omega) _ (e 4 (by omega)), key 5 (by omega) _ (e 5 (by omega)), key 6 (by omega) _ (e 6 (by omega))⟩
/-- THE LAW'S LOOP, out of an invariant of the map at its head -/
theorem law_loop (hlt : l.stackTraces = false) (C : Cx p m meth c cL_law 4 s #[Value.ref b] R_law room_1 ev D H0 35 11482) (hr : meth.sig.returnType = ret) (he : ev.1 = s.heap.size ∧ ev.2.1 = s.heap.size + 603072 ∧ ev.2.2.1 = xtot s.heap + 7194730) {L : Nat} {xs : Nat → Int32} (hb : b < ev.1) (ho : ev.2.2.2.2 b = some (.inl (0, L, .inl xs))) (hL : L ≤ 448) {J : Nat → Mm → Prop} (hJ : ∀ (j : Nat) (σ : Mm), 7 * j + 7 ≤ L → J j σ → St fu ev σ x1 x2 (fun k => xs (7 * j + k)) (J (j + 1))) :
    ∀ (n j : Nat) (σ : Mm), L + 1 ≤ 7 * j + n → 7 * j ≤ L → J j σ → GG p l e room_1 s m #[Value.ref b] below meth c D H0 ev 4 (lw_Z below #[Value.ref b] s) σ 18 [(0, .ref b), (1, .ref x1), (2, .ref x2), (3, .int (nI (7 * j)))] [] := by
  intro n
  induction n with
  | zero => intro j σ h1 h2 h3; omega
  | succ n ih =>
    intro j σ h1 h2 h3 H locs ls hH hLc hl
    refine lv_iload_n C.x C.b dL_law_18 rfl (lv_at hl 3 rfl) ?_
    refine lv_aload_n C.x C.b dL_law_19 rfl (lv_at hl 0 rfl) ?_
    refine m_alen (v := nI L) C hH (by unfold alen; rw [hH.2.2.2.2.2.2.2 b hb, ho]; rfl) dL_law_20 ?_
    refine lv_bipush (v := 7) C.x C.b dL_law_21 kb_7 ?_
    refine lv_isub C.x C.b dL_law_23 ?_
    refine lv_icmp_gt (tgt := 1437) C.x C.b dL_law_24 (by decide) (fun q => ?_) (fun q => ?_)
    · exact law_end C hr he H locs ls hH hLc hl
    · have hj : 7 * j + 7 ≤ L := by
        rcases Nat.lt_or_ge L (7 * j + 7) with h | h
        · exfalso
          apply q
          exact lw_short h2 h hL
        · exact h
      refine law_sw hlt C (Sc_of hb ho hj hL) (hJ j σ hj h3) (fun σ2 k => law_tail C (Sc_of hb ho hj hL) ?_) H locs ls hH hLc (lv_sub hl [0, 1, 2, 3] rfl)
      rw [nI7 j]
      exact ih (j + 1) σ2 (by omega) (by omega) k
/-- THE LAW, from its entry -/
theorem law_start (hlt : l.stackTraces = false) (C : Cx p m meth c cL_law 4 s #[Value.ref b] R_law room_1 ev D H0 35 11482) (hr : meth.sig.returnType = ret) (he : ev.1 = s.heap.size ∧ ev.2.1 = s.heap.size + 603072 ∧ ev.2.2.1 = xtot s.heap + 7194730) {L : Nat} {xs : Nat → Int32} (hb : b < ev.1) (ho : ev.2.2.2.2 b = some (.inl (0, L, .inl xs))) (hL : L ≤ 448) {σ s1 s2 s3 s4 : Mm} {u1 u2 : Unit} (hH : Hs D H0 ev σ s.heap)
    (h1 : nwO ev σ 0 25 [.null, .int 0, .null, .null, .null, .int 0, .null, .null, .int 0, .null, .null, .null, .null, .null, .int 0, .null, .null, .null, .int 0, .null, .null, .null, .null, .null, .int 0] = some (x1, s1)) (h2 : f_X0_init fu ev s1 x1 = some (u1, s2)) (h3 : nwO ev s2 2 32 [.null, .null, .int 0, .int 0, .int 0, .int 0, .int 0, .int 0, .int 0, .int 0, .int 0, .int 0, .null, .null, .null, .null, .null, .null, .null, .null, .null, .null, .null, .null, .null, .int 0, .int 0, .int 0, .int 0, .null, .null, .int 0] = some (x2, s3)) (h4 : f_X2_init fu ev s3 x2 = some (u2, s4)) {J : Nat → Mm → Prop} (h0 : J 0 s4) (hJ : ∀ (j : Nat) (σ : Mm), 7 * j + 7 ≤ L → J j σ → St fu ev σ x1 x2 (fun k => xs (7 * j + k)) (J (j + 1))) : W p l e room_1 s m #[Value.ref b] below meth c s.heap [] 0 0 (lw_Z below #[Value.ref b] s) (entryFrame m ([Value.ref b] : List Value).toArray 4) := by
  have hl0 := lv_entry [.ref b] (n := 4) (Nat.le_of_ble_eq_true rfl)
  rw [lg_entry_eq]
  have hl := lv_sub (l' := [(0, .ref b)]) hl0 [0] rfl
  refine m_new C hH (by simp) nl__law_7 h1 dL_law_0 (fun H_1 locs_1 hH_1 hL_1 => ?_)
  refine lv_dup C.x C.b dL_law_3 rfl ?_
  refine m_callIN (As := []) (rest := [.ref x1]) C hH_1 hL_1 ci__law_9 (ct_X0_init l D H0 h2) ⟨Nat.le_of_ble_eq_true rfl, Nat.le_of_ble_eq_true rfl⟩ rfl hl.1 rfl (Nat.le_of_ble_eq_true rfl) dL_law_4 (fun H_2 locs_2 hH_2 hL_2 => ?_)
  refine lv_astore_n (i := 1) (lv' := [(1, .ref x1), (0, .ref b)]) C.x C.b dL_law_7 rfl hl (by decide) rfl (fun ls_1 hl_1 => ?_)
  refine m_new C hH_2 hL_2 nl__law_10 h3 dL_law_8 (fun H_3 locs_3 hH_3 hL_3 => ?_)
  refine lv_dup C.x C.b dL_law_11 rfl ?_
  refine m_callIN (As := []) (rest := [.ref x2]) C hH_3 hL_3 ci__law_12 (ct_X2_init l D H0 h4) ⟨Nat.le_of_ble_eq_true rfl, Nat.le_of_ble_eq_true rfl⟩ rfl hl_1.1 rfl (Nat.le_of_ble_eq_true rfl) dL_law_12 (fun H_4 locs_4 hH_4 hL_4 => ?_)
  refine lv_astore_n (i := 2) (lv' := [(2, .ref x2), (1, .ref x1), (0, .ref b)]) C.x C.b dL_law_15 rfl hl_1 (by decide) rfl (fun ls_2 hl_2 => ?_)
  refine lv_iconst (v := 0) C.x C.b dL_law_16 ki_0 ?_
  refine lv_istore_n (i := 3) (lv' := [(3, .int 0), (2, .ref x2), (1, .ref x1), (0, .ref b)]) C.x C.b dL_law_17 rfl hl_2 (by decide) rfl (fun ls_3 hl_3 => ?_)
  exact law_loop hlt C hr he hb ho hL hJ (L + 1) 0 s4 (by omega) (by omega) h0 H_4 locs_4 ls_3 hH_4 hL_4 (lv_sub hl_3 [3, 2, 1, 0] rfl)
end LAW
