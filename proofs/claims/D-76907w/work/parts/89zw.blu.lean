/-! FOUR VECTORS (class): blunts and sharpest upon row 37 -/
def setY (w : Wd) (b : Nat → Int64) : Wd := (fun q i => if q = 37 ∧ i < 6 then b i else w.1 q i, w.2)
def blV (b : Nat → Int64) (k pr pt rt rq tq : Nat) : Nat → Int64 := upV (upV (upV (upV (upV (upV b k (-b k)) pr (b k + b pt)) pt (b k + b pr)) rt (b rt - b k)) rq (b rq + b k)) tq (b tq + b k)
section XBL
variable {ev : Ev} {w : Wd} {fu k i : Nat} {b : Nat → Int64} {x : Int64} {σ : Mm}
theorem y_ld (h : i < 6) : aldJ (mem ev (setY w b)) (ev.1 + 37) (nI i) = some (b i) := by
  rw [rdJ (N := 6) rfl (by decide) (by decide) h]
  show some (if 37 = 37 ∧ i < 6 then b i else w.1 37 i) = _
  rw [if_pos ⟨rfl, h⟩]
theorem y_st (h : i < 6) : astJ ev (mem ev (setY w b)) (ev.1 + 37) (nI i) x = some (mem ev (setY w (upV b i x))) := by
  rw [wrJ (N := 6) rfl (by decide) (by decide) h]
  congr 2
  refine Prod.ext (funext fun q => funext fun j => ?_) rfl
  show (if q = 37 ∧ j = i then x else if q = 37 ∧ j < 6 then b j else w.1 q j) = if q = 37 ∧ j < 6 then (if j = i then x else b j) else w.1 q j
  by_cases e : q = 37 ∧ j = i
  · rw [if_pos e, if_pos ⟨e.1, by omega⟩, if_pos e.2]
  · rw [if_neg e]
    by_cases e2 : q = 37 ∧ j < 6
    · rw [if_pos e2, if_pos e2, if_neg (fun z => e ⟨e2.1, z⟩)]
    · rw [if_neg e2, if_neg e2]
theorem y_ld0 : aldJ (mem ev (setY w b)) (ev.1 + 37) (0 : Int32) = some (b 0) := y_ld (i := 0) (by decide)
theorem y_st0 : astJ ev (mem ev (setY w b)) (ev.1 + 37) (0 : Int32) x = some (mem ev (setY w (upV b 0 x))) := y_st (i := 0) (by decide)
theorem y_ld1 : aldJ (mem ev (setY w b)) (ev.1 + 37) (1 : Int32) = some (b 1) := y_ld (i := 1) (by decide)
theorem y_st1 : astJ ev (mem ev (setY w b)) (ev.1 + 37) (1 : Int32) x = some (mem ev (setY w (upV b 1 x))) := y_st (i := 1) (by decide)
theorem y_ld2 : aldJ (mem ev (setY w b)) (ev.1 + 37) (2 : Int32) = some (b 2) := y_ld (i := 2) (by decide)
theorem y_st2 : astJ ev (mem ev (setY w b)) (ev.1 + 37) (2 : Int32) x = some (mem ev (setY w (upV b 2 x))) := y_st (i := 2) (by decide)
theorem y_ld3 : aldJ (mem ev (setY w b)) (ev.1 + 37) (3 : Int32) = some (b 3) := y_ld (i := 3) (by decide)
theorem y_st3 : astJ ev (mem ev (setY w b)) (ev.1 + 37) (3 : Int32) x = some (mem ev (setY w (upV b 3 x))) := y_st (i := 3) (by decide)
theorem y_ld4 : aldJ (mem ev (setY w b)) (ev.1 + 37) (4 : Int32) = some (b 4) := y_ld (i := 4) (by decide)
theorem y_st4 : astJ ev (mem ev (setY w b)) (ev.1 + 37) (4 : Int32) x = some (mem ev (setY w (upV b 4 x))) := y_st (i := 4) (by decide)
theorem y_ld5 : aldJ (mem ev (setY w b)) (ev.1 + 37) (5 : Int32) = some (b 5) := y_ld (i := 5) (by decide)
theorem y_st5 : astJ ev (mem ev (setY w b)) (ev.1 + 37) (5 : Int32) x = some (mem ev (setY w (upV b 5 x))) := y_st (i := 5) (by decide)
theorem pr_01 : f_X0_pairOf fu ev σ (0 : Int32) (1 : Int32) = some (2, σ) := rfl
theorem pr_02 : f_X0_pairOf fu ev σ (0 : Int32) (2 : Int32) = some (1, σ) := rfl
theorem pr_03 : f_X0_pairOf fu ev σ (0 : Int32) (3 : Int32) = some (3, σ) := rfl
theorem pr_10 : f_X0_pairOf fu ev σ (1 : Int32) (0 : Int32) = some (2, σ) := rfl
theorem pr_12 : f_X0_pairOf fu ev σ (1 : Int32) (2 : Int32) = some (0, σ) := rfl
theorem pr_13 : f_X0_pairOf fu ev σ (1 : Int32) (3 : Int32) = some (4, σ) := rfl
theorem pr_20 : f_X0_pairOf fu ev σ (2 : Int32) (0 : Int32) = some (1, σ) := rfl
theorem pr_21 : f_X0_pairOf fu ev σ (2 : Int32) (1 : Int32) = some (0, σ) := rfl
theorem pr_23 : f_X0_pairOf fu ev σ (2 : Int32) (3 : Int32) = some (5, σ) := rfl
theorem pr_30 : f_X0_pairOf fu ev σ (3 : Int32) (0 : Int32) = some (3, σ) := rfl
theorem pr_31 : f_X0_pairOf fu ev σ (3 : Int32) (1 : Int32) = some (4, σ) := rfl
theorem pr_32 : f_X0_pairOf fu ev σ (3 : Int32) (2 : Int32) = some (5, σ) := rfl
theorem X0_blunts_0 (hf : 4 ≤ fu) : f_X0_blunts fu ev (mem ev (setY w b)) ev.1 (0 : Int32) = some ((), mem ev (setY w (blV b 0 2 4 3 1 5))) := by
  obtain ⟨g, hg⟩ : ∃ g, fu = g + 4 := ⟨fu - 4, by omega⟩
  have hL : ∀ σ x0 x2 x3 x4, L_X0_blunts_44 fu ev fu σ x0 x2 x3 x4 = L_X0_blunts_44 fu ev (g + 4) σ x0 x2 x3 x4 := fun _ _ _ _ _ => by rw [← hg]
  have s0 : ((6 : Int32) - 1 - 2 - 0) = 3 := by decide
  simp only [f_X0_blunts, b_X0_blunts_0, b_X0_blunts_4, b_X0_blunts_8, b_X0_blunts_13, b_X0_blunts_17, b_X0_blunts_20, b_X0_blunts_26, b_X0_blunts_30, b_X0_blunts_35, b_X0_blunts_39, b_X0_blunts_40, hL, L_X0_blunts_44, b_X0_blunts_44, b_X0_blunts_50, b_X0_blunts_56, b_X0_blunts_62, xf15, pr_01, pr_02, pr_03, pr_10, pr_12, pr_13, pr_20, pr_21, pr_23, pr_30, pr_31, pr_32, y_ld0, y_st0, y_ld1, y_st1, y_ld2, y_st2, y_ld3, y_st3, y_ld4, y_st4, y_ld5, y_st5, s0, upV_at, Option.bind_some, bd2, b01, if_true, if_false, not_true_eq_false, not_false_eq_true, Bool.false_eq_true, eq_self, Int32.reduceAdd, Int32.reduceMul, Int32.reduceLE, Int32.reduceLT, reduceIte, Int32.add_assoc, ie_0_1, ie_0_2, ie_0_3, ie_0_4, ie_0_5, ie_0_6, ie_0_7, ie_0_8, ie_0_9, ie_1_0, ie_1_2, ie_1_3, ie_1_4, ie_1_5, ie_1_6, ie_1_7, ie_1_8, ie_1_9, ie_2_0, ie_2_1, ie_2_3, ie_2_4, ie_2_5, ie_2_6, ie_2_7, ie_2_8, ie_2_9, ie_3_0, ie_3_1, ie_3_2, ie_3_4, ie_3_5, ie_3_6, ie_3_7, ie_3_8, ie_3_9, ie_4_0, ie_4_1, ie_4_2, ie_4_3, ie_4_5, ie_4_6, ie_4_7, ie_4_8, ie_4_9, ie_5_0, ie_5_1, ie_5_2, ie_5_3, ie_5_4, ie_5_6, ie_5_7, ie_5_8, ie_5_9, ie_6_0, ie_6_1, ie_6_2, ie_6_3, ie_6_4, ie_6_5, ie_6_7, ie_6_8, ie_6_9, ie_7_0, ie_7_1, ie_7_2, ie_7_3, ie_7_4, ie_7_5, ie_7_6, ie_7_8, ie_7_9, ie_8_0, ie_8_1, ie_8_2, ie_8_3, ie_8_4, ie_8_5, ie_8_6, ie_8_7, ie_8_9, ie_9_0, ie_9_1, ie_9_2, ie_9_3, ie_9_4, ie_9_5, ie_9_6, ie_9_7, ie_9_8, nI_1, nI_pred, setC_21, setS_21, wI_same, Int32.reduceSub]
  rfl
theorem X0_blunts_1 (hf : 4 ≤ fu) : f_X0_blunts fu ev (mem ev (setY w b)) ev.1 (1 : Int32) = some ((), mem ev (setY w (blV b 1 2 3 4 0 5))) := by
  obtain ⟨g, hg⟩ : ∃ g, fu = g + 4 := ⟨fu - 4, by omega⟩
  have hL : ∀ σ x0 x2 x3 x4, L_X0_blunts_44 fu ev fu σ x0 x2 x3 x4 = L_X0_blunts_44 fu ev (g + 4) σ x0 x2 x3 x4 := fun _ _ _ _ _ => by rw [← hg]
  have s0 : ((6 : Int32) - 0 - 2 - 1) = 3 := by decide
  simp only [f_X0_blunts, b_X0_blunts_0, b_X0_blunts_4, b_X0_blunts_8, b_X0_blunts_13, b_X0_blunts_17, b_X0_blunts_20, b_X0_blunts_26, b_X0_blunts_30, b_X0_blunts_35, b_X0_blunts_39, b_X0_blunts_40, hL, L_X0_blunts_44, b_X0_blunts_44, b_X0_blunts_50, b_X0_blunts_56, b_X0_blunts_62, xf15, pr_01, pr_02, pr_03, pr_10, pr_12, pr_13, pr_20, pr_21, pr_23, pr_30, pr_31, pr_32, y_ld0, y_st0, y_ld1, y_st1, y_ld2, y_st2, y_ld3, y_st3, y_ld4, y_st4, y_ld5, y_st5, s0, upV_at, Option.bind_some, bd2, b01, if_true, if_false, not_true_eq_false, not_false_eq_true, Bool.false_eq_true, eq_self, Int32.reduceAdd, Int32.reduceMul, Int32.reduceLE, Int32.reduceLT, reduceIte, Int32.add_assoc, ie_0_1, ie_0_2, ie_0_3, ie_0_4, ie_0_5, ie_0_6, ie_0_7, ie_0_8, ie_0_9, ie_1_0, ie_1_2, ie_1_3, ie_1_4, ie_1_5, ie_1_6, ie_1_7, ie_1_8, ie_1_9, ie_2_0, ie_2_1, ie_2_3, ie_2_4, ie_2_5, ie_2_6, ie_2_7, ie_2_8, ie_2_9, ie_3_0, ie_3_1, ie_3_2, ie_3_4, ie_3_5, ie_3_6, ie_3_7, ie_3_8, ie_3_9, ie_4_0, ie_4_1, ie_4_2, ie_4_3, ie_4_5, ie_4_6, ie_4_7, ie_4_8, ie_4_9, ie_5_0, ie_5_1, ie_5_2, ie_5_3, ie_5_4, ie_5_6, ie_5_7, ie_5_8, ie_5_9, ie_6_0, ie_6_1, ie_6_2, ie_6_3, ie_6_4, ie_6_5, ie_6_7, ie_6_8, ie_6_9, ie_7_0, ie_7_1, ie_7_2, ie_7_3, ie_7_4, ie_7_5, ie_7_6, ie_7_8, ie_7_9, ie_8_0, ie_8_1, ie_8_2, ie_8_3, ie_8_4, ie_8_5, ie_8_6, ie_8_7, ie_8_9, ie_9_0, ie_9_1, ie_9_2, ie_9_3, ie_9_4, ie_9_5, ie_9_6, ie_9_7, ie_9_8, nI_1, nI_pred, setC_21, setS_21, wI_same, Int32.reduceSub]
  rfl
theorem X0_blunts_2 (hf : 4 ≤ fu) : f_X0_blunts fu ev (mem ev (setY w b)) ev.1 (2 : Int32) = some ((), mem ev (setY w (blV b 2 1 3 5 0 4))) := by
  obtain ⟨g, hg⟩ : ∃ g, fu = g + 4 := ⟨fu - 4, by omega⟩
  have hL : ∀ σ x0 x2 x3 x4, L_X0_blunts_44 fu ev fu σ x0 x2 x3 x4 = L_X0_blunts_44 fu ev (g + 4) σ x0 x2 x3 x4 := fun _ _ _ _ _ => by rw [← hg]
  have s0 : ((6 : Int32) - 0 - 1 - 2) = 3 := by decide
  simp only [f_X0_blunts, b_X0_blunts_0, b_X0_blunts_4, b_X0_blunts_8, b_X0_blunts_13, b_X0_blunts_17, b_X0_blunts_20, b_X0_blunts_26, b_X0_blunts_30, b_X0_blunts_35, b_X0_blunts_39, b_X0_blunts_40, hL, L_X0_blunts_44, b_X0_blunts_44, b_X0_blunts_50, b_X0_blunts_56, b_X0_blunts_62, xf15, pr_01, pr_02, pr_03, pr_10, pr_12, pr_13, pr_20, pr_21, pr_23, pr_30, pr_31, pr_32, y_ld0, y_st0, y_ld1, y_st1, y_ld2, y_st2, y_ld3, y_st3, y_ld4, y_st4, y_ld5, y_st5, s0, upV_at, Option.bind_some, bd2, b01, if_true, if_false, not_true_eq_false, not_false_eq_true, Bool.false_eq_true, eq_self, Int32.reduceAdd, Int32.reduceMul, Int32.reduceLE, Int32.reduceLT, reduceIte, Int32.add_assoc, ie_0_1, ie_0_2, ie_0_3, ie_0_4, ie_0_5, ie_0_6, ie_0_7, ie_0_8, ie_0_9, ie_1_0, ie_1_2, ie_1_3, ie_1_4, ie_1_5, ie_1_6, ie_1_7, ie_1_8, ie_1_9, ie_2_0, ie_2_1, ie_2_3, ie_2_4, ie_2_5, ie_2_6, ie_2_7, ie_2_8, ie_2_9, ie_3_0, ie_3_1, ie_3_2, ie_3_4, ie_3_5, ie_3_6, ie_3_7, ie_3_8, ie_3_9, ie_4_0, ie_4_1, ie_4_2, ie_4_3, ie_4_5, ie_4_6, ie_4_7, ie_4_8, ie_4_9, ie_5_0, ie_5_1, ie_5_2, ie_5_3, ie_5_4, ie_5_6, ie_5_7, ie_5_8, ie_5_9, ie_6_0, ie_6_1, ie_6_2, ie_6_3, ie_6_4, ie_6_5, ie_6_7, ie_6_8, ie_6_9, ie_7_0, ie_7_1, ie_7_2, ie_7_3, ie_7_4, ie_7_5, ie_7_6, ie_7_8, ie_7_9, ie_8_0, ie_8_1, ie_8_2, ie_8_3, ie_8_4, ie_8_5, ie_8_6, ie_8_7, ie_8_9, ie_9_0, ie_9_1, ie_9_2, ie_9_3, ie_9_4, ie_9_5, ie_9_6, ie_9_7, ie_9_8, nI_1, nI_pred, setC_21, setS_21, wI_same, Int32.reduceSub]
  rfl
theorem X0_blunts_3 (hf : 4 ≤ fu) : f_X0_blunts fu ev (mem ev (setY w b)) ev.1 (3 : Int32) = some ((), mem ev (setY w (blV b 3 2 1 0 4 5))) := by
  obtain ⟨g, hg⟩ : ∃ g, fu = g + 4 := ⟨fu - 4, by omega⟩
  have hL : ∀ σ x0 x2 x3 x4, L_X0_blunts_44 fu ev fu σ x0 x2 x3 x4 = L_X0_blunts_44 fu ev (g + 4) σ x0 x2 x3 x4 := fun _ _ _ _ _ => by rw [← hg]
  have s0 : ((6 : Int32) - 0 - 3 - 1) = 2 := by decide
  simp only [f_X0_blunts, b_X0_blunts_0, b_X0_blunts_4, b_X0_blunts_8, b_X0_blunts_13, b_X0_blunts_17, b_X0_blunts_20, b_X0_blunts_26, b_X0_blunts_30, b_X0_blunts_35, b_X0_blunts_39, b_X0_blunts_40, hL, L_X0_blunts_44, b_X0_blunts_44, b_X0_blunts_50, b_X0_blunts_56, b_X0_blunts_62, xf15, pr_01, pr_02, pr_03, pr_10, pr_12, pr_13, pr_20, pr_21, pr_23, pr_30, pr_31, pr_32, y_ld0, y_st0, y_ld1, y_st1, y_ld2, y_st2, y_ld3, y_st3, y_ld4, y_st4, y_ld5, y_st5, s0, upV_at, Option.bind_some, bd2, b01, if_true, if_false, not_true_eq_false, not_false_eq_true, Bool.false_eq_true, eq_self, Int32.reduceAdd, Int32.reduceMul, Int32.reduceLE, Int32.reduceLT, reduceIte, Int32.add_assoc, ie_0_1, ie_0_2, ie_0_3, ie_0_4, ie_0_5, ie_0_6, ie_0_7, ie_0_8, ie_0_9, ie_1_0, ie_1_2, ie_1_3, ie_1_4, ie_1_5, ie_1_6, ie_1_7, ie_1_8, ie_1_9, ie_2_0, ie_2_1, ie_2_3, ie_2_4, ie_2_5, ie_2_6, ie_2_7, ie_2_8, ie_2_9, ie_3_0, ie_3_1, ie_3_2, ie_3_4, ie_3_5, ie_3_6, ie_3_7, ie_3_8, ie_3_9, ie_4_0, ie_4_1, ie_4_2, ie_4_3, ie_4_5, ie_4_6, ie_4_7, ie_4_8, ie_4_9, ie_5_0, ie_5_1, ie_5_2, ie_5_3, ie_5_4, ie_5_6, ie_5_7, ie_5_8, ie_5_9, ie_6_0, ie_6_1, ie_6_2, ie_6_3, ie_6_4, ie_6_5, ie_6_7, ie_6_8, ie_6_9, ie_7_0, ie_7_1, ie_7_2, ie_7_3, ie_7_4, ie_7_5, ie_7_6, ie_7_8, ie_7_9, ie_8_0, ie_8_1, ie_8_2, ie_8_3, ie_8_4, ie_8_5, ie_8_6, ie_8_7, ie_8_9, ie_9_0, ie_9_1, ie_9_2, ie_9_3, ie_9_4, ie_9_5, ie_9_6, ie_9_7, ie_9_8, nI_1, nI_pred, setC_21, setS_21, wI_same, Int32.reduceSub]
  rfl
theorem X0_blunts_4 (hf : 4 ≤ fu) : f_X0_blunts fu ev (mem ev (setY w b)) ev.1 (4 : Int32) = some ((), mem ev (setY w (blV b 4 2 0 1 3 5))) := by
  obtain ⟨g, hg⟩ : ∃ g, fu = g + 4 := ⟨fu - 4, by omega⟩
  have hL : ∀ σ x0 x2 x3 x4, L_X0_blunts_44 fu ev fu σ x0 x2 x3 x4 = L_X0_blunts_44 fu ev (g + 4) σ x0 x2 x3 x4 := fun _ _ _ _ _ => by rw [← hg]
  have s0 : ((6 : Int32) - 1 - 3 - 0) = 2 := by decide
  simp only [f_X0_blunts, b_X0_blunts_0, b_X0_blunts_4, b_X0_blunts_8, b_X0_blunts_13, b_X0_blunts_17, b_X0_blunts_20, b_X0_blunts_26, b_X0_blunts_30, b_X0_blunts_35, b_X0_blunts_39, b_X0_blunts_40, hL, L_X0_blunts_44, b_X0_blunts_44, b_X0_blunts_50, b_X0_blunts_56, b_X0_blunts_62, xf15, pr_01, pr_02, pr_03, pr_10, pr_12, pr_13, pr_20, pr_21, pr_23, pr_30, pr_31, pr_32, y_ld0, y_st0, y_ld1, y_st1, y_ld2, y_st2, y_ld3, y_st3, y_ld4, y_st4, y_ld5, y_st5, s0, upV_at, Option.bind_some, bd2, b01, if_true, if_false, not_true_eq_false, not_false_eq_true, Bool.false_eq_true, eq_self, Int32.reduceAdd, Int32.reduceMul, Int32.reduceLE, Int32.reduceLT, reduceIte, Int32.add_assoc, ie_0_1, ie_0_2, ie_0_3, ie_0_4, ie_0_5, ie_0_6, ie_0_7, ie_0_8, ie_0_9, ie_1_0, ie_1_2, ie_1_3, ie_1_4, ie_1_5, ie_1_6, ie_1_7, ie_1_8, ie_1_9, ie_2_0, ie_2_1, ie_2_3, ie_2_4, ie_2_5, ie_2_6, ie_2_7, ie_2_8, ie_2_9, ie_3_0, ie_3_1, ie_3_2, ie_3_4, ie_3_5, ie_3_6, ie_3_7, ie_3_8, ie_3_9, ie_4_0, ie_4_1, ie_4_2, ie_4_3, ie_4_5, ie_4_6, ie_4_7, ie_4_8, ie_4_9, ie_5_0, ie_5_1, ie_5_2, ie_5_3, ie_5_4, ie_5_6, ie_5_7, ie_5_8, ie_5_9, ie_6_0, ie_6_1, ie_6_2, ie_6_3, ie_6_4, ie_6_5, ie_6_7, ie_6_8, ie_6_9, ie_7_0, ie_7_1, ie_7_2, ie_7_3, ie_7_4, ie_7_5, ie_7_6, ie_7_8, ie_7_9, ie_8_0, ie_8_1, ie_8_2, ie_8_3, ie_8_4, ie_8_5, ie_8_6, ie_8_7, ie_8_9, ie_9_0, ie_9_1, ie_9_2, ie_9_3, ie_9_4, ie_9_5, ie_9_6, ie_9_7, ie_9_8, nI_1, nI_pred, setC_21, setS_21, wI_same, Int32.reduceSub]
  rfl
theorem X0_blunts_5 (hf : 4 ≤ fu) : f_X0_blunts fu ev (mem ev (setY w b)) ev.1 (5 : Int32) = some ((), mem ev (setY w (blV b 5 1 0 2 3 4))) := by
  obtain ⟨g, hg⟩ : ∃ g, fu = g + 4 := ⟨fu - 4, by omega⟩
  have hL : ∀ σ x0 x2 x3 x4, L_X0_blunts_44 fu ev fu σ x0 x2 x3 x4 = L_X0_blunts_44 fu ev (g + 4) σ x0 x2 x3 x4 := fun _ _ _ _ _ => by rw [← hg]
  have s0 : ((6 : Int32) - 2 - 3 - 0) = 1 := by decide
  simp only [f_X0_blunts, b_X0_blunts_0, b_X0_blunts_4, b_X0_blunts_8, b_X0_blunts_13, b_X0_blunts_17, b_X0_blunts_20, b_X0_blunts_26, b_X0_blunts_30, b_X0_blunts_35, b_X0_blunts_39, b_X0_blunts_40, hL, L_X0_blunts_44, b_X0_blunts_44, b_X0_blunts_50, b_X0_blunts_56, b_X0_blunts_62, xf15, pr_01, pr_02, pr_03, pr_10, pr_12, pr_13, pr_20, pr_21, pr_23, pr_30, pr_31, pr_32, y_ld0, y_st0, y_ld1, y_st1, y_ld2, y_st2, y_ld3, y_st3, y_ld4, y_st4, y_ld5, y_st5, s0, upV_at, Option.bind_some, bd2, b01, if_true, if_false, not_true_eq_false, not_false_eq_true, Bool.false_eq_true, eq_self, Int32.reduceAdd, Int32.reduceMul, Int32.reduceLE, Int32.reduceLT, reduceIte, Int32.add_assoc, ie_0_1, ie_0_2, ie_0_3, ie_0_4, ie_0_5, ie_0_6, ie_0_7, ie_0_8, ie_0_9, ie_1_0, ie_1_2, ie_1_3, ie_1_4, ie_1_5, ie_1_6, ie_1_7, ie_1_8, ie_1_9, ie_2_0, ie_2_1, ie_2_3, ie_2_4, ie_2_5, ie_2_6, ie_2_7, ie_2_8, ie_2_9, ie_3_0, ie_3_1, ie_3_2, ie_3_4, ie_3_5, ie_3_6, ie_3_7, ie_3_8, ie_3_9, ie_4_0, ie_4_1, ie_4_2, ie_4_3, ie_4_5, ie_4_6, ie_4_7, ie_4_8, ie_4_9, ie_5_0, ie_5_1, ie_5_2, ie_5_3, ie_5_4, ie_5_6, ie_5_7, ie_5_8, ie_5_9, ie_6_0, ie_6_1, ie_6_2, ie_6_3, ie_6_4, ie_6_5, ie_6_7, ie_6_8, ie_6_9, ie_7_0, ie_7_1, ie_7_2, ie_7_3, ie_7_4, ie_7_5, ie_7_6, ie_7_8, ie_7_9, ie_8_0, ie_8_1, ie_8_2, ie_8_3, ie_8_4, ie_8_5, ie_8_6, ie_8_7, ie_8_9, ie_9_0, ie_9_1, ie_9_2, ie_9_3, ie_9_4, ie_9_5, ie_9_6, ie_9_7, ie_9_8, nI_1, nI_pred, setC_21, setS_21, wI_same, Int32.reduceSub]
  rfl
end XBL
