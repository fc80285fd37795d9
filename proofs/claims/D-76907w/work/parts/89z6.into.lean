/-! OPERATION into -/
section XIT
variable {ev : Ev} {w w' : Wd} {fu k n M T a l i m C F p c L lim A : Nat} {x y h u : Int32} {K : Option Nat} {z : Int64} {f g vals : Nat → Int64} {q : Nat → Nat}
theorem six_k (hc : c < 118) (hk : k < 6) : f_X1_six fu ev (mem ev w) (ev.1 + cr c) (nI k) = some (cv w c k, mem ev w) := by
  match k, hk with
  | 0, _ => exact X1_six_0 hc
  | 1, _ => exact X1_six_1 hc
  | 2, _ => exact X1_six_2 hc
  | 3, _ => exact X1_six_3 hc
  | 4, _ => exact X1_six_4 hc
  | 5, _ => exact X1_six_5 hc
theorem n_k {K : Nat} (hc : K < 26) (hk : k < 6) : f_X2_n fu ev (mem ev w) (ev.1 + 966) (nI K) (nI k) = some (sl w K k, mem ev w) := by
  match k, hk with
  | 0, _ => exact X2_n_0 hc
  | 1, _ => exact X2_n_1 hc
  | 2, _ => exact X2_n_2 hc
  | 3, _ => exact X2_n_3 hc
  | 4, _ => exact X2_n_4 hc
  | 5, _ => exact X2_n_5 hc
theorem told01 (hc : c < 118) (hk : k < 6) (hh : h = 0 ∨ h = 1) : f_X0_toldAt fu ev (mem ev w) ev.1 (some (ev.1 + cr c)) h (nI k) = some (cv w c k, mem ev w) := by
  have h2 : ¬ (2 : Int32) ≤ h := by rcases hh with rfl | rfl <;> decide
  simp only [b_X0_toldAt_25, b_X0_toldAt_13, b_X0_toldAt_5, b_X0_toldAt_0, f_X0_toldAt, h2, cis hc, six_k hc hk, Option.bind_some, bd2, b01, if_true, if_false, not_true_eq_false, not_false_eq_true, Bool.false_eq_true, eq_self, Int32.reduceAdd, Int32.reduceMul, Int32.reduceLE, Int32.reduceLT, reduceIte, Int32.add_assoc, ie_0_1, ie_0_2, ie_0_3, ie_0_4, ie_0_5, ie_0_6, ie_0_7, ie_0_8, ie_0_9, ie_1_0, ie_1_2, ie_1_3, ie_1_4, ie_1_5, ie_1_6, ie_1_7, ie_1_8, ie_1_9, ie_2_0, ie_2_1, ie_2_3, ie_2_4, ie_2_5, ie_2_6, ie_2_7, ie_2_8, ie_2_9, ie_3_0, ie_3_1, ie_3_2, ie_3_4, ie_3_5, ie_3_6, ie_3_7, ie_3_8, ie_3_9, ie_4_0, ie_4_1, ie_4_2, ie_4_3, ie_4_5, ie_4_6, ie_4_7, ie_4_8, ie_4_9, ie_5_0, ie_5_1, ie_5_2, ie_5_3, ie_5_4, ie_5_6, ie_5_7, ie_5_8, ie_5_9, ie_6_0, ie_6_1, ie_6_2, ie_6_3, ie_6_4, ie_6_5, ie_6_7, ie_6_8, ie_6_9, ie_7_0, ie_7_1, ie_7_2, ie_7_3, ie_7_4, ie_7_5, ie_7_6, ie_7_8, ie_7_9, ie_8_0, ie_8_1, ie_8_2, ie_8_3, ie_8_4, ie_8_5, ie_8_6, ie_8_7, ie_8_9, ie_9_0, ie_9_1, ie_9_2, ie_9_3, ie_9_4, ie_9_5, ie_9_6, ie_9_7, ie_9_8, nI_1, nI_pred, setC_21, setS_21, wI_same, Int32.reduceSub]
theorem told2 (hc : c < 118) (hk : k < 9) : f_X0_toldAt fu ev (mem ev w) ev.1 (some (ev.1 + cr c)) 2 (nI k) = some (cv w c (6 + k), mem ev w) := by
  match k, hk with
  | 0, _ => show f_X0_toldAt fu ev (mem ev w) ev.1 _ 2 (0 : Int32) = _; simp only [b_X0_toldAt_25, b_X0_toldAt_13, b_X0_toldAt_5, b_X0_toldAt_0, f_X0_toldAt, cf0 hc, cf1 hc, cf2 hc, cr0 hc, cr1 hc, cr2 hc, cis hc, cl10 hc, cl11 hc, cl12 hc, cl20 hc, cl21 hc, cl22 hc, cl40 hc, cl41 hc, cl42 hc, cl50 hc, cl51 hc, cl52 hc, cl60 hc, cl61 hc, cl62 hc, Int32.reduceDiv, Option.bind_some, bd2, b01, if_true, if_false, not_true_eq_false, not_false_eq_true, Bool.false_eq_true, eq_self, Int32.reduceAdd, Int32.reduceMul, Int32.reduceLE, Int32.reduceLT, reduceIte, Int32.add_assoc, ie_0_1, ie_0_2, ie_0_3, ie_0_4, ie_0_5, ie_0_6, ie_0_7, ie_0_8, ie_0_9, ie_1_0, ie_1_2, ie_1_3, ie_1_4, ie_1_5, ie_1_6, ie_1_7, ie_1_8, ie_1_9, ie_2_0, ie_2_1, ie_2_3, ie_2_4, ie_2_5, ie_2_6, ie_2_7, ie_2_8, ie_2_9, ie_3_0, ie_3_1, ie_3_2, ie_3_4, ie_3_5, ie_3_6, ie_3_7, ie_3_8, ie_3_9, ie_4_0, ie_4_1, ie_4_2, ie_4_3, ie_4_5, ie_4_6, ie_4_7, ie_4_8, ie_4_9, ie_5_0, ie_5_1, ie_5_2, ie_5_3, ie_5_4, ie_5_6, ie_5_7, ie_5_8, ie_5_9, ie_6_0, ie_6_1, ie_6_2, ie_6_3, ie_6_4, ie_6_5, ie_6_7, ie_6_8, ie_6_9, ie_7_0, ie_7_1, ie_7_2, ie_7_3, ie_7_4, ie_7_5, ie_7_6, ie_7_8, ie_7_9, ie_8_0, ie_8_1, ie_8_2, ie_8_3, ie_8_4, ie_8_5, ie_8_6, ie_8_7, ie_8_9, ie_9_0, ie_9_1, ie_9_2, ie_9_3, ie_9_4, ie_9_5, ie_9_6, ie_9_7, ie_9_8, nI_1, nI_pred, setC_21, setS_21, wI_same, Int32.reduceSub]
  | 1, _ => show f_X0_toldAt fu ev (mem ev w) ev.1 _ 2 (1 : Int32) = _; simp only [b_X0_toldAt_25, b_X0_toldAt_13, b_X0_toldAt_5, b_X0_toldAt_0, f_X0_toldAt, cf0 hc, cf1 hc, cf2 hc, cr0 hc, cr1 hc, cr2 hc, cis hc, cl10 hc, cl11 hc, cl12 hc, cl20 hc, cl21 hc, cl22 hc, cl40 hc, cl41 hc, cl42 hc, cl50 hc, cl51 hc, cl52 hc, cl60 hc, cl61 hc, cl62 hc, Int32.reduceDiv, Option.bind_some, bd2, b01, if_true, if_false, not_true_eq_false, not_false_eq_true, Bool.false_eq_true, eq_self, Int32.reduceAdd, Int32.reduceMul, Int32.reduceLE, Int32.reduceLT, reduceIte, Int32.add_assoc, ie_0_1, ie_0_2, ie_0_3, ie_0_4, ie_0_5, ie_0_6, ie_0_7, ie_0_8, ie_0_9, ie_1_0, ie_1_2, ie_1_3, ie_1_4, ie_1_5, ie_1_6, ie_1_7, ie_1_8, ie_1_9, ie_2_0, ie_2_1, ie_2_3, ie_2_4, ie_2_5, ie_2_6, ie_2_7, ie_2_8, ie_2_9, ie_3_0, ie_3_1, ie_3_2, ie_3_4, ie_3_5, ie_3_6, ie_3_7, ie_3_8, ie_3_9, ie_4_0, ie_4_1, ie_4_2, ie_4_3, ie_4_5, ie_4_6, ie_4_7, ie_4_8, ie_4_9, ie_5_0, ie_5_1, ie_5_2, ie_5_3, ie_5_4, ie_5_6, ie_5_7, ie_5_8, ie_5_9, ie_6_0, ie_6_1, ie_6_2, ie_6_3, ie_6_4, ie_6_5, ie_6_7, ie_6_8, ie_6_9, ie_7_0, ie_7_1, ie_7_2, ie_7_3, ie_7_4, ie_7_5, ie_7_6, ie_7_8, ie_7_9, ie_8_0, ie_8_1, ie_8_2, ie_8_3, ie_8_4, ie_8_5, ie_8_6, ie_8_7, ie_8_9, ie_9_0, ie_9_1, ie_9_2, ie_9_3, ie_9_4, ie_9_5, ie_9_6, ie_9_7, ie_9_8, nI_1, nI_pred, setC_21, setS_21, wI_same, Int32.reduceSub]
  | 2, _ => show f_X0_toldAt fu ev (mem ev w) ev.1 _ 2 (2 : Int32) = _; simp only [b_X0_toldAt_25, b_X0_toldAt_13, b_X0_toldAt_5, b_X0_toldAt_0, f_X0_toldAt, cf0 hc, cf1 hc, cf2 hc, cr0 hc, cr1 hc, cr2 hc, cis hc, cl10 hc, cl11 hc, cl12 hc, cl20 hc, cl21 hc, cl22 hc, cl40 hc, cl41 hc, cl42 hc, cl50 hc, cl51 hc, cl52 hc, cl60 hc, cl61 hc, cl62 hc, Int32.reduceDiv, Option.bind_some, bd2, b01, if_true, if_false, not_true_eq_false, not_false_eq_true, Bool.false_eq_true, eq_self, Int32.reduceAdd, Int32.reduceMul, Int32.reduceLE, Int32.reduceLT, reduceIte, Int32.add_assoc, ie_0_1, ie_0_2, ie_0_3, ie_0_4, ie_0_5, ie_0_6, ie_0_7, ie_0_8, ie_0_9, ie_1_0, ie_1_2, ie_1_3, ie_1_4, ie_1_5, ie_1_6, ie_1_7, ie_1_8, ie_1_9, ie_2_0, ie_2_1, ie_2_3, ie_2_4, ie_2_5, ie_2_6, ie_2_7, ie_2_8, ie_2_9, ie_3_0, ie_3_1, ie_3_2, ie_3_4, ie_3_5, ie_3_6, ie_3_7, ie_3_8, ie_3_9, ie_4_0, ie_4_1, ie_4_2, ie_4_3, ie_4_5, ie_4_6, ie_4_7, ie_4_8, ie_4_9, ie_5_0, ie_5_1, ie_5_2, ie_5_3, ie_5_4, ie_5_6, ie_5_7, ie_5_8, ie_5_9, ie_6_0, ie_6_1, ie_6_2, ie_6_3, ie_6_4, ie_6_5, ie_6_7, ie_6_8, ie_6_9, ie_7_0, ie_7_1, ie_7_2, ie_7_3, ie_7_4, ie_7_5, ie_7_6, ie_7_8, ie_7_9, ie_8_0, ie_8_1, ie_8_2, ie_8_3, ie_8_4, ie_8_5, ie_8_6, ie_8_7, ie_8_9, ie_9_0, ie_9_1, ie_9_2, ie_9_3, ie_9_4, ie_9_5, ie_9_6, ie_9_7, ie_9_8, nI_1, nI_pred, setC_21, setS_21, wI_same, Int32.reduceSub]
  | 3, _ => show f_X0_toldAt fu ev (mem ev w) ev.1 _ 2 (3 : Int32) = _; simp only [b_X0_toldAt_25, b_X0_toldAt_13, b_X0_toldAt_5, b_X0_toldAt_0, f_X0_toldAt, cf0 hc, cf1 hc, cf2 hc, cr0 hc, cr1 hc, cr2 hc, cis hc, cl10 hc, cl11 hc, cl12 hc, cl20 hc, cl21 hc, cl22 hc, cl40 hc, cl41 hc, cl42 hc, cl50 hc, cl51 hc, cl52 hc, cl60 hc, cl61 hc, cl62 hc, Int32.reduceDiv, Option.bind_some, bd2, b01, if_true, if_false, not_true_eq_false, not_false_eq_true, Bool.false_eq_true, eq_self, Int32.reduceAdd, Int32.reduceMul, Int32.reduceLE, Int32.reduceLT, reduceIte, Int32.add_assoc, ie_0_1, ie_0_2, ie_0_3, ie_0_4, ie_0_5, ie_0_6, ie_0_7, ie_0_8, ie_0_9, ie_1_0, ie_1_2, ie_1_3, ie_1_4, ie_1_5, ie_1_6, ie_1_7, ie_1_8, ie_1_9, ie_2_0, ie_2_1, ie_2_3, ie_2_4, ie_2_5, ie_2_6, ie_2_7, ie_2_8, ie_2_9, ie_3_0, ie_3_1, ie_3_2, ie_3_4, ie_3_5, ie_3_6, ie_3_7, ie_3_8, ie_3_9, ie_4_0, ie_4_1, ie_4_2, ie_4_3, ie_4_5, ie_4_6, ie_4_7, ie_4_8, ie_4_9, ie_5_0, ie_5_1, ie_5_2, ie_5_3, ie_5_4, ie_5_6, ie_5_7, ie_5_8, ie_5_9, ie_6_0, ie_6_1, ie_6_2, ie_6_3, ie_6_4, ie_6_5, ie_6_7, ie_6_8, ie_6_9, ie_7_0, ie_7_1, ie_7_2, ie_7_3, ie_7_4, ie_7_5, ie_7_6, ie_7_8, ie_7_9, ie_8_0, ie_8_1, ie_8_2, ie_8_3, ie_8_4, ie_8_5, ie_8_6, ie_8_7, ie_8_9, ie_9_0, ie_9_1, ie_9_2, ie_9_3, ie_9_4, ie_9_5, ie_9_6, ie_9_7, ie_9_8, nI_1, nI_pred, setC_21, setS_21, wI_same, Int32.reduceSub]
  | 4, _ => show f_X0_toldAt fu ev (mem ev w) ev.1 _ 2 (4 : Int32) = _; simp only [b_X0_toldAt_25, b_X0_toldAt_13, b_X0_toldAt_5, b_X0_toldAt_0, f_X0_toldAt, cf0 hc, cf1 hc, cf2 hc, cr0 hc, cr1 hc, cr2 hc, cis hc, cl10 hc, cl11 hc, cl12 hc, cl20 hc, cl21 hc, cl22 hc, cl40 hc, cl41 hc, cl42 hc, cl50 hc, cl51 hc, cl52 hc, cl60 hc, cl61 hc, cl62 hc, Int32.reduceDiv, Option.bind_some, bd2, b01, if_true, if_false, not_true_eq_false, not_false_eq_true, Bool.false_eq_true, eq_self, Int32.reduceAdd, Int32.reduceMul, Int32.reduceLE, Int32.reduceLT, reduceIte, Int32.add_assoc, ie_0_1, ie_0_2, ie_0_3, ie_0_4, ie_0_5, ie_0_6, ie_0_7, ie_0_8, ie_0_9, ie_1_0, ie_1_2, ie_1_3, ie_1_4, ie_1_5, ie_1_6, ie_1_7, ie_1_8, ie_1_9, ie_2_0, ie_2_1, ie_2_3, ie_2_4, ie_2_5, ie_2_6, ie_2_7, ie_2_8, ie_2_9, ie_3_0, ie_3_1, ie_3_2, ie_3_4, ie_3_5, ie_3_6, ie_3_7, ie_3_8, ie_3_9, ie_4_0, ie_4_1, ie_4_2, ie_4_3, ie_4_5, ie_4_6, ie_4_7, ie_4_8, ie_4_9, ie_5_0, ie_5_1, ie_5_2, ie_5_3, ie_5_4, ie_5_6, ie_5_7, ie_5_8, ie_5_9, ie_6_0, ie_6_1, ie_6_2, ie_6_3, ie_6_4, ie_6_5, ie_6_7, ie_6_8, ie_6_9, ie_7_0, ie_7_1, ie_7_2, ie_7_3, ie_7_4, ie_7_5, ie_7_6, ie_7_8, ie_7_9, ie_8_0, ie_8_1, ie_8_2, ie_8_3, ie_8_4, ie_8_5, ie_8_6, ie_8_7, ie_8_9, ie_9_0, ie_9_1, ie_9_2, ie_9_3, ie_9_4, ie_9_5, ie_9_6, ie_9_7, ie_9_8, nI_1, nI_pred, setC_21, setS_21, wI_same, Int32.reduceSub]
  | 5, _ => show f_X0_toldAt fu ev (mem ev w) ev.1 _ 2 (5 : Int32) = _; simp only [b_X0_toldAt_25, b_X0_toldAt_13, b_X0_toldAt_5, b_X0_toldAt_0, f_X0_toldAt, cf0 hc, cf1 hc, cf2 hc, cr0 hc, cr1 hc, cr2 hc, cis hc, cl10 hc, cl11 hc, cl12 hc, cl20 hc, cl21 hc, cl22 hc, cl40 hc, cl41 hc, cl42 hc, cl50 hc, cl51 hc, cl52 hc, cl60 hc, cl61 hc, cl62 hc, Int32.reduceDiv, Option.bind_some, bd2, b01, if_true, if_false, not_true_eq_false, not_false_eq_true, Bool.false_eq_true, eq_self, Int32.reduceAdd, Int32.reduceMul, Int32.reduceLE, Int32.reduceLT, reduceIte, Int32.add_assoc, ie_0_1, ie_0_2, ie_0_3, ie_0_4, ie_0_5, ie_0_6, ie_0_7, ie_0_8, ie_0_9, ie_1_0, ie_1_2, ie_1_3, ie_1_4, ie_1_5, ie_1_6, ie_1_7, ie_1_8, ie_1_9, ie_2_0, ie_2_1, ie_2_3, ie_2_4, ie_2_5, ie_2_6, ie_2_7, ie_2_8, ie_2_9, ie_3_0, ie_3_1, ie_3_2, ie_3_4, ie_3_5, ie_3_6, ie_3_7, ie_3_8, ie_3_9, ie_4_0, ie_4_1, ie_4_2, ie_4_3, ie_4_5, ie_4_6, ie_4_7, ie_4_8, ie_4_9, ie_5_0, ie_5_1, ie_5_2, ie_5_3, ie_5_4, ie_5_6, ie_5_7, ie_5_8, ie_5_9, ie_6_0, ie_6_1, ie_6_2, ie_6_3, ie_6_4, ie_6_5, ie_6_7, ie_6_8, ie_6_9, ie_7_0, ie_7_1, ie_7_2, ie_7_3, ie_7_4, ie_7_5, ie_7_6, ie_7_8, ie_7_9, ie_8_0, ie_8_1, ie_8_2, ie_8_3, ie_8_4, ie_8_5, ie_8_6, ie_8_7, ie_8_9, ie_9_0, ie_9_1, ie_9_2, ie_9_3, ie_9_4, ie_9_5, ie_9_6, ie_9_7, ie_9_8, nI_1, nI_pred, setC_21, setS_21, wI_same, Int32.reduceSub]
  | 6, _ => show f_X0_toldAt fu ev (mem ev w) ev.1 _ 2 (6 : Int32) = _; simp only [b_X0_toldAt_25, b_X0_toldAt_13, b_X0_toldAt_5, b_X0_toldAt_0, f_X0_toldAt, cf0 hc, cf1 hc, cf2 hc, cr0 hc, cr1 hc, cr2 hc, cis hc, cl10 hc, cl11 hc, cl12 hc, cl20 hc, cl21 hc, cl22 hc, cl40 hc, cl41 hc, cl42 hc, cl50 hc, cl51 hc, cl52 hc, cl60 hc, cl61 hc, cl62 hc, Int32.reduceDiv, Option.bind_some, bd2, b01, if_true, if_false, not_true_eq_false, not_false_eq_true, Bool.false_eq_true, eq_self, Int32.reduceAdd, Int32.reduceMul, Int32.reduceLE, Int32.reduceLT, reduceIte, Int32.add_assoc, ie_0_1, ie_0_2, ie_0_3, ie_0_4, ie_0_5, ie_0_6, ie_0_7, ie_0_8, ie_0_9, ie_1_0, ie_1_2, ie_1_3, ie_1_4, ie_1_5, ie_1_6, ie_1_7, ie_1_8, ie_1_9, ie_2_0, ie_2_1, ie_2_3, ie_2_4, ie_2_5, ie_2_6, ie_2_7, ie_2_8, ie_2_9, ie_3_0, ie_3_1, ie_3_2, ie_3_4, ie_3_5, ie_3_6, ie_3_7, ie_3_8, ie_3_9, ie_4_0, ie_4_1, ie_4_2, ie_4_3, ie_4_5, ie_4_6, ie_4_7, ie_4_8, ie_4_9, ie_5_0, ie_5_1, ie_5_2, ie_5_3, ie_5_4, ie_5_6, ie_5_7, ie_5_8, ie_5_9, ie_6_0, ie_6_1, ie_6_2, ie_6_3, ie_6_4, ie_6_5, ie_6_7, ie_6_8, ie_6_9, ie_7_0, ie_7_1, ie_7_2, ie_7_3, ie_7_4, ie_7_5, ie_7_6, ie_7_8, ie_7_9, ie_8_0, ie_8_1, ie_8_2, ie_8_3, ie_8_4, ie_8_5, ie_8_6, ie_8_7, ie_8_9, ie_9_0, ie_9_1, ie_9_2, ie_9_3, ie_9_4, ie_9_5, ie_9_6, ie_9_7, ie_9_8, nI_1, nI_pred, setC_21, setS_21, wI_same, Int32.reduceSub]
  | 7, _ => show f_X0_toldAt fu ev (mem ev w) ev.1 _ 2 (7 : Int32) = _; simp only [b_X0_toldAt_25, b_X0_toldAt_13, b_X0_toldAt_5, b_X0_toldAt_0, f_X0_toldAt, cf0 hc, cf1 hc, cf2 hc, cr0 hc, cr1 hc, cr2 hc, cis hc, cl10 hc, cl11 hc, cl12 hc, cl20 hc, cl21 hc, cl22 hc, cl40 hc, cl41 hc, cl42 hc, cl50 hc, cl51 hc, cl52 hc, cl60 hc, cl61 hc, cl62 hc, Int32.reduceDiv, Option.bind_some, bd2, b01, if_true, if_false, not_true_eq_false, not_false_eq_true, Bool.false_eq_true, eq_self, Int32.reduceAdd, Int32.reduceMul, Int32.reduceLE, Int32.reduceLT, reduceIte, Int32.add_assoc, ie_0_1, ie_0_2, ie_0_3, ie_0_4, ie_0_5, ie_0_6, ie_0_7, ie_0_8, ie_0_9, ie_1_0, ie_1_2, ie_1_3, ie_1_4, ie_1_5, ie_1_6, ie_1_7, ie_1_8, ie_1_9, ie_2_0, ie_2_1, ie_2_3, ie_2_4, ie_2_5, ie_2_6, ie_2_7, ie_2_8, ie_2_9, ie_3_0, ie_3_1, ie_3_2, ie_3_4, ie_3_5, ie_3_6, ie_3_7, ie_3_8, ie_3_9, ie_4_0, ie_4_1, ie_4_2, ie_4_3, ie_4_5, ie_4_6, ie_4_7, ie_4_8, ie_4_9, ie_5_0, ie_5_1, ie_5_2, ie_5_3, ie_5_4, ie_5_6, ie_5_7, ie_5_8, ie_5_9, ie_6_0, ie_6_1, ie_6_2, ie_6_3, ie_6_4, ie_6_5, ie_6_7, ie_6_8, ie_6_9, ie_7_0, ie_7_1, ie_7_2, ie_7_3, ie_7_4, ie_7_5, ie_7_6, ie_7_8, ie_7_9, ie_8_0, ie_8_1, ie_8_2, ie_8_3, ie_8_4, ie_8_5, ie_8_6, ie_8_7, ie_8_9, ie_9_0, ie_9_1, ie_9_2, ie_9_3, ie_9_4, ie_9_5, ie_9_6, ie_9_7, ie_9_8, nI_1, nI_pred, setC_21, setS_21, wI_same, Int32.reduceSub]
  | 8, _ => show f_X0_toldAt fu ev (mem ev w) ev.1 _ 2 (8 : Int32) = _; simp only [b_X0_toldAt_25, b_X0_toldAt_13, b_X0_toldAt_5, b_X0_toldAt_0, f_X0_toldAt, cf0 hc, cf1 hc, cf2 hc, cr0 hc, cr1 hc, cr2 hc, cis hc, cl10 hc, cl11 hc, cl12 hc, cl20 hc, cl21 hc, cl22 hc, cl40 hc, cl41 hc, cl42 hc, cl50 hc, cl51 hc, cl52 hc, cl60 hc, cl61 hc, cl62 hc, Int32.reduceDiv, Option.bind_some, bd2, b01, if_true, if_false, not_true_eq_false, not_false_eq_true, Bool.false_eq_true, eq_self, Int32.reduceAdd, Int32.reduceMul, Int32.reduceLE, Int32.reduceLT, reduceIte, Int32.add_assoc, ie_0_1, ie_0_2, ie_0_3, ie_0_4, ie_0_5, ie_0_6, ie_0_7, ie_0_8, ie_0_9, ie_1_0, ie_1_2, ie_1_3, ie_1_4, ie_1_5, ie_1_6, ie_1_7, ie_1_8, ie_1_9, ie_2_0, ie_2_1, ie_2_3, ie_2_4, ie_2_5, ie_2_6, ie_2_7, ie_2_8, ie_2_9, ie_3_0, ie_3_1, ie_3_2, ie_3_4, ie_3_5, ie_3_6, ie_3_7, ie_3_8, ie_3_9, ie_4_0, ie_4_1, ie_4_2, ie_4_3, ie_4_5, ie_4_6, ie_4_7, ie_4_8, ie_4_9, ie_5_0, ie_5_1, ie_5_2, ie_5_3, ie_5_4, ie_5_6, ie_5_7, ie_5_8, ie_5_9, ie_6_0, ie_6_1, ie_6_2, ie_6_3, ie_6_4, ie_6_5, ie_6_7, ie_6_8, ie_6_9, ie_7_0, ie_7_1, ie_7_2, ie_7_3, ie_7_4, ie_7_5, ie_7_6, ie_7_8, ie_7_9, ie_8_0, ie_8_1, ie_8_2, ie_8_3, ie_8_4, ie_8_5, ie_8_6, ie_8_7, ie_8_9, ie_9_0, ie_9_1, ie_9_2, ie_9_3, ie_9_4, ie_9_5, ie_9_6, ie_9_7, ie_9_8, nI_1, nI_pred, setC_21, setS_21, wI_same, Int32.reduceSub]
theorem lt_len (hL : L ≤ 16) (hk : k ≤ 9) (hp : p < 2 ^ 31) : nI L - nI k ≤ nI p ↔ L ≤ p + k := by
  rw [Int32.le_iff_toInt_le, pk_sub_toInt (by omega) (by omega), nI_toInt hp]
  omega
def limV (h : Int32) : Nat := if (2 : Int32) ≤ h then 9 else 6
theorem Lx_into (hl : l < 4) (ha : ev.1 + 984 ≤ a) (hL : L ≤ 16) (hp : p < 2 ^ 31) (hm1 : m ≤ limV h) (hm2 : m = 0 ∨ p + m ≤ L) (hm3 : m = limV h ∨ L ≤ p + m) {J : Nat → Nat → Int64} (hT : ∀ w0 : Wd, w0.1 = J → ∀ k : Nat, k < limV h → f_X0_toldAt fu ev (mem ev w0) ev.1 (some A) h (nI k) = some (vals k, mem ev w0)) :
    ∀ (d f k : Nat) (w : Wd) (g : Nat → Int64), k + d = m → w.1 = J → w.2.2.1 41 l = some a → dyn w a = some (.inl (1, L, .inr (.inl g))) → d < f → ∃ (w' : Wd) (g' : Nat → Int64), L_X0_into_81 fu ev f (mem ev w) ev.1 h (nI l) (nI p) (some A) (nI k) = some (nI m, mem ev w') ∧ w'.1 = w.1 ∧ w'.2.1 = w.2.1 ∧ w'.2.2.1 = w.2.2.1 ∧ w'.2.2.2.2 = w.2.2.2.2 ∧ dyn w' a = some (.inl (1, L, .inr (.inl g'))) ∧ (∀ b : Nat, b ≠ a → dyn w' b = dyn w b) ∧ ∀ i : Nat, g' i = if p + k ≤ i ∧ i < p + m then vals (i - p) else g i := by
  have h9 : limV h ≤ 9 := by unfold limV; split <;> omega
  have hb : ∀ (R : Mm → Nat → Int32 → Int32 → Int32 → Option Nat → Int32 → Option (Int32 × Mm)) (w : Wd) (k : Nat) (g : Nat → Int64), k ≤ 9 → w.2.2.1 41 l = some a → dyn w a = some (.inl (1, L, .inr (.inl g))) → b_X0_into_81 R fu ev (mem ev w) ev.1 h (nI l) (nI p) (some A) (nI k) = if limV h ≤ k ∨ L ≤ p + k then some (nI k, mem ev w) else b_X0_into_113 R fu ev (mem ev w) ev.1 h (nI l) (nI p) (some A) (nI k) := by
    intro R w k g hk hA hd
    have e98 : b_X0_into_98 R fu ev (mem ev w) ev.1 h (nI l) (nI p) (some A) (nI k) = if L ≤ p + k then some (nI k, mem ev w) else b_X0_into_113 R fu ev (mem ev w) ev.1 h (nI l) (nI p) (some A) (nI k) := by
      unfold b_X0_into_98
      rw [xf20, Option.bind_some, Option.bind_some, xrow hl, Option.bind_some, hA, Option.bind_some, d_len ha hd, Option.bind_some]
      by_cases e : L ≤ p + k
      · rw [if_pos ((lt_len hL hk hp).mpr e), if_pos e]
        rfl
      · rw [if_neg (fun y => e ((lt_len hL hk hp).mp y)), if_neg e]
    unfold b_X0_into_81 limV
    by_cases h2 : (2 : Int32) ≤ h
    · rw [if_pos h2, if_pos h2]
      unfold b_X0_into_93 b_X0_into_95
      by_cases e : 9 ≤ k
      · rw [if_pos (show (9 : Int32) ≤ nI k from nI_le (a := 9) e (by omega)), if_pos (Or.inl e)]
        rfl
      · rw [if_neg (show ¬ (9 : Int32) ≤ nI k from nI_ge (b := 9) (by omega) (by decide)), e98]
        by_cases e2 : L ≤ p + k
        · rw [if_pos e2, if_pos (Or.inr e2)]
        · rw [if_neg e2, if_neg (fun y => y.elim e e2)]
    · rw [if_neg h2, if_neg h2]
      unfold b_X0_into_88 b_X0_into_95
      by_cases e : 6 ≤ k
      · rw [if_pos (show (6 : Int32) ≤ nI k from nI_le (a := 6) e (by omega)), if_pos (Or.inl e)]
        rfl
      · rw [if_neg (show ¬ (6 : Int32) ≤ nI k from nI_ge (b := 6) (by omega) (by decide)), e98]
        by_cases e2 : L ≤ p + k
        · rw [if_pos e2, if_pos (Or.inr e2)]
        · rw [if_neg e2, if_neg (fun y => y.elim e e2)]
  intro d
  induction d with
  | zero =>
    intro f k w g hk hJ hA hd hf
    obtain ⟨e, rfl⟩ : ∃ e, f = e + 1 := ⟨f - 1, by omega⟩
    obtain rfl : k = m := by omega
    refine ⟨w, g, ?_, rfl, rfl, rfl, rfl, hd, fun _ _ => rfl, fun i => by rw [if_neg (by omega)]⟩
    show b_X0_into_81 _ fu ev _ _ _ _ _ _ _ = _
    rw [hb _ w k g (by omega) hA hd, if_pos (hm3.imp (fun y => by omega) (fun y => y))]
  | succ d ih =>
    intro f k w g hk hJ hA hd hf
    obtain ⟨e, rfl⟩ : ∃ e, f = e + 1 := ⟨f - 1, by omega⟩
    have st := d_stJ (ev := ev) (w := w) (k := p + k) (z := vals k) ha hd (by omega) (by omega)
    obtain ⟨wa, hwa⟩ : ∃ wa, wa = wD w a (some (.inl (1, L, .inr (.inl (vp_updL g (p + k) (vals k)))))) := ⟨_, rfl⟩
    rw [← hwa] at st
    have dya : ∀ b : Nat, dyn wa b = if b = a then some (.inl (1, L, .inr (.inl (vp_updL g (p + k) (vals k))))) else dyn w b := fun b => by rw [hwa, dyn_wD]
    obtain ⟨w', g', e1, e2, e3, e4, e5, e6, e7, e8⟩ := ih e (k + 1) wa (vp_updL g (p + k) (vals k)) (by omega) (by rw [hwa]; exact hJ) (by rw [hwa]; exact hA) (by rw [dya, if_pos rfl]) (by omega)
    refine ⟨w', g', ?_, by rw [e2, hwa]; rfl, by rw [e3, hwa]; rfl, by rw [e4, hwa]; rfl, by rw [e5, hwa]; rfl, e6, fun b hb' => by rw [e7 b hb', dya, if_neg hb'], fun i => ?_⟩
    · show b_X0_into_81 _ fu ev _ _ _ _ _ _ _ = _
      rw [hb _ w k g (by omega) hA hd, if_neg (by omega)]
      unfold b_X0_into_113
      rw [xf20, Option.bind_some, Option.bind_some, xrow hl, Option.bind_some, xis, Option.bind_some, hT w hJ k (by omega)]
      show (w.2.2.1 41 l).bind _ = _
      rw [hA, Option.bind_some, nI_add, st, Option.bind_some, nI_1]
      exact e1
    · rw [e8]
      by_cases c1 : p + (k + 1) ≤ i ∧ i < p + m
      · rw [if_pos c1, if_pos (by omega)]
      · rw [if_neg c1]
        show (if i = p + k then vals k else g i) = _
        by_cases c2 : i = p + k
        · rw [if_pos c2, if_pos (by omega), c2, Nat.add_sub_cancel_left]
        · rw [if_neg c2, if_neg (by omega)]
theorem Lm_into (hl : l < 4) (hL : L ≤ 16) (hp : p < 2 ^ 31) (hh : h = 0 ∨ h = 1 ∨ h = 2) (hm1 : m ≤ limV h) (hm2 : m = 0 ∨ p + m ≤ L) (hm3 : m = limV h ∨ L ≤ p + m) {S : Nat → Nat → Int64} (hV : ∀ w0 : Wd, (∀ K : Nat, sl w0 K = S K) → ∀ (k : Nat) (R : Mm → Nat → Int32 → Int32 → Int32 → Int32 → Int32 → Option (Int32 × Mm)), k < limV h → b_X2_into_96 R fu ev (mem ev w0) (ev.1 + 966) u h (nI l) (nI p) (nI k) = (astJ ev (mem ev w0) (ev.1 + 983) (((16 : Int32) * nI l + nI p) + nI k) (vals k)).bind fun s2 => R s2 (ev.1 + 966) u h (nI l) (nI p) (nI k + 1)) :
    ∀ (d f k : Nat) (w : Wd), k + d = m → (∀ K : Nat, sl w K = S K) → w.2.1 982 l = nI L → d < f → ∃ w' : Wd, L_X2_into_65 fu ev f (mem ev w) (ev.1 + 966) u h (nI l) (nI p) (nI k) = some (nI m, mem ev w') ∧ w'.2 = w.2 ∧ (∀ j : Nat, w'.1 983 j = if 16 * l + p + k ≤ j ∧ j < 16 * l + p + m then vals (j - (16 * l + p)) else w.1 983 j) ∧ FrX [18] w w' ∧ ∀ K : Nat, sl w' K = sl w K := by
  have h9 : limV h ≤ 9 := by unfold limV; split <;> omega
  have hb : ∀ (R : Mm → Nat → Int32 → Int32 → Int32 → Int32 → Int32 → Option (Int32 × Mm)) (w : Wd) (k : Nat), k ≤ 9 → w.2.1 982 l = nI L → b_X2_into_65 R fu ev (mem ev w) (ev.1 + 966) u h (nI l) (nI p) (nI k) = if limV h ≤ k ∨ L ≤ p + k then some (nI k, mem ev w) else b_X2_into_96 R fu ev (mem ev w) (ev.1 + 966) u h (nI l) (nI p) (nI k) := by
    intro R w k hk hd
    have ld := rdI (ev := ev) (w := w) (r := 982) (k := l) (N := 4) rfl (by decide) (by decide) hl
    rw [hd] at ld
    have e82 : b_X2_into_82 R fu ev (mem ev w) (ev.1 + 966) u h (nI l) (nI p) (nI k) = if L ≤ p + k then some (nI k, mem ev w) else b_X2_into_96 R fu ev (mem ev w) (ev.1 + 966) u h (nI l) (nI p) (nI k) := by
      unfold b_X2_into_82
      rw [mf29, Option.bind_some, Option.bind_some, ld, Option.bind_some]
      by_cases e : L ≤ p + k
      · rw [if_pos ((lt_len hL hk hp).mpr e), if_pos e]
        rfl
      · rw [if_neg (fun y => e ((lt_len hL hk hp).mp y)), if_neg e]
    have hi : (h = 2) ↔ (2 : Int32) ≤ h := by rcases hh with rfl | rfl | rfl <;> decide
    unfold b_X2_into_65 limV
    by_cases h2 : (2 : Int32) ≤ h
    · rw [if_pos (hi.mpr h2), if_pos h2]
      unfold b_X2_into_72 b_X2_into_79
      by_cases e : 9 ≤ k
      · rw [if_pos (show (9 : Int32) ≤ nI k from nI_le (a := 9) e (by omega)), if_pos (Or.inl e)]
        rfl
      · rw [if_neg (show ¬ (9 : Int32) ≤ nI k from nI_ge (b := 9) (by omega) (by decide)), e82]
        by_cases e2 : L ≤ p + k
        · rw [if_pos e2, if_pos (Or.inr e2)]
        · rw [if_neg e2, if_neg (fun y => y.elim e e2)]
    · rw [if_neg (fun y => h2 (hi.mp y)), if_neg h2]
      unfold b_X2_into_77 b_X2_into_79
      by_cases e : 6 ≤ k
      · rw [if_pos (show (6 : Int32) ≤ nI k from nI_le (a := 6) e (by omega)), if_pos (Or.inl e)]
        rfl
      · rw [if_neg (show ¬ (6 : Int32) ≤ nI k from nI_ge (b := 6) (by omega) (by decide)), e82]
        by_cases e2 : L ≤ p + k
        · rw [if_pos e2, if_pos (Or.inr e2)]
        · rw [if_neg e2, if_neg (fun y => y.elim e e2)]
  intro d
  induction d with
  | zero =>
    intro f k w hk hS hA hf
    obtain ⟨e, rfl⟩ : ∃ e, f = e + 1 := ⟨f - 1, by omega⟩
    obtain rfl : k = m := by omega
    refine ⟨w, ?_, rfl, fun i => by rw [if_neg (by omega)], FrX_refl, fun _ => rfl⟩
    show b_X2_into_65 _ fu ev _ _ _ _ _ _ _ = _
    rw [hb _ w k (by omega) hA, if_pos (hm3.imp (fun y => by omega) (fun y => y))]
  | succ d ih =>
    intro f k w hk hS hA hf
    obtain ⟨e, rfl⟩ : ∃ e, f = e + 1 := ⟨f - 1, by omega⟩
    have st := wrJ (ev := ev) (w := w) (r := 983) (k := 16 * l + p + k) (N := 64) (z := vals k) rfl (by decide) (by decide) (by omega)
    obtain ⟨wa, hwa⟩ : ∃ wa, wa = wJ w 983 (16 * l + p + k) (vals k) := ⟨_, rfl⟩
    rw [← hwa] at st
    have sa : ∀ K : Nat, sl wa K = sl w K := fun K => by rw [hwa]; exact sl_wJ (by decide)
    obtain ⟨w', e1, e2, e3, e4, e5⟩ := ih e (k + 1) wa (by omega) (fun K => (sa K).trans (hS K)) (by rw [hwa]; exact hA) (by omega)
    refine ⟨w', ?_, by rw [e2, hwa]; rfl, fun j => ?_, FrX_trans (S := [18]) (w' := wa) (by rw [hwa]; exact FrX_wJ) e4 (by decide) (by decide), fun K => (e5 K).trans (sa K)⟩
    · show b_X2_into_65 _ fu ev _ _ _ _ _ _ _ = _
      rw [hb _ w k (by omega) hA, if_neg (by omega), hV w hS k _ (by omega), show (16 : Int32) = nI 16 from rfl, pk_mul, nI_add, nI_add, st, Option.bind_some, nI_1]
      exact e1
    · rw [e3, hwa]
      show (if 16 * l + p + (k + 1) ≤ j ∧ j < 16 * l + p + m then vals (j - (16 * l + p)) else if 983 = 983 ∧ j = 16 * l + p + k then vals k else w.1 983 j) = _
      by_cases c1 : 16 * l + p + (k + 1) ≤ j ∧ j < 16 * l + p + m
      · rw [if_pos c1, if_pos (by omega)]
      · rw [if_neg c1]
        by_cases c2 : j = 16 * l + p + k
        · rw [if_pos ⟨rfl, c2⟩, if_pos (by omega), c2, Nat.add_sub_cancel_left]
        · rw [if_neg (fun y => c2 y.2), if_neg (by omega)]
end XIT
