/-! PART 36 (src 36.basic.src): bounds that always hold; what is read behind a send -/
def z_nm (l : List Int32) : Prop := l.length ≤ 40 ∧ z_by l
/-- counts and numbers within their bounds, rows of octets; n: how many hops there may have been -/
def z_B (n : Nat) (A : w_A) : Prop :=
  (vN A 0 0 ≤ 4 ∧ vN A 1 0 ≤ 16 ∧ vN A 2 0 ≤ 16 ∧ vN A 3 0 ≤ 64 ∧ vN A 4 0 ≤ 32 ∧ vN A 5 0 ≤ 200000)
  ∧ vN A 6 0 ≤ n
  ∧ (∀ p, vN A 9 p ≤ 8 ∧ vN A 10 p ≤ 8)
  ∧ (∀ c, vN A 11 c ≤ 4 ∧ vN A 14 c < 600)
  ∧ (∀ i, vN A 12 i ≤ 4)
  ∧ (∀ s, vN A 13 s ≤ 16)
  ∧ z_nm (vL A 0 0) ∧ z_nm (vL A 1 0) ∧ (∀ p, z_nm (vL A 2 p))
  ∧ (∀ i, z_nm (vL A 7 i) ∧ z_nm (vL A 8 i) ∧ z_nm (vL A 9 i))
  ∧ (∀ s, s < vN A 2 0 → z_nm (vL A 4 s) ∧ z_nm (vL A 5 s) ∧ z_nm (vL A 6 s))
  ∧ (∀ s, s < vN A 4 0 → z_nm (vL A 11 s) ∧ (vL A 10 s).length ≤ 300 ∧ 20 ≤ (vL A 10 s).length ∧ z_by (vL A 10 s))
  ∧ (∀ k, nb (vI A 64 k) = vI A 64 k)
theorem z_B_mono {n m : Nat} (h : n ≤ m) {A : w_A} (b : z_B n A) : z_B m A := ⟨b.1, Nat.le_trans b.2.1 h, b.2.2⟩
theorem B_sI (n : Nat) (A : w_A) {v : Nat} (h : v < 64) (i : Nat) (x : Int32) : z_B n (sI A v i x) = z_B n A := by
  unfold z_B
  simp only [ev_rd, ev_st, aEl, z_w, z_cat, Nat.reduceMod, Nat.reduceDiv, Nat.reduceLeDiff, Nat.reduceLT, Nat.reduceAdd, Nat.reduceMul, Nat.reduceSub, Nat.reduceEqDiff, Int32.reduceLT, Int32.reduceLE, Int32.reduceAdd, Int32.reduceSub, Int32.reduceMul, true_and, and_true, false_and, and_false, true_or, or_true, false_or, or_false, not_true_eq_false, not_false_eq_true, if_true, if_false, reduceIte, ne_eq, and_self, or_self, reduceCtorEq, Option.some.injEq, Prod.mk.injEq, vI_sI, show ¬ (64 = v) by omega]
theorem B_sJ (n : Nat) (A : w_A) (v i : Nat) (x : Int64) : z_B n (sJ A v i x) = z_B n A := rfl
theorem B_sP (n : Nat) (A : w_A) (x : Option w_P) : z_B n (sP A x) = z_B n A := rfl
theorem B_sN (n : Nat) (A : w_A) {v : Nat} (h : v = 7 ∨ v = 8 ∨ 15 ≤ v) (i x : Nat) : z_B n (sN A v i x) = z_B n A := by
  unfold z_B
  have h0 : ¬ (0 = v) := by omega
  have h1 : ¬ (1 = v) := by omega
  have h2 : ¬ (2 = v) := by omega
  have h3 : ¬ (3 = v) := by omega
  have h4 : ¬ (4 = v) := by omega
  have h5 : ¬ (5 = v) := by omega
  have h6 : ¬ (6 = v) := by omega
  have h9 : ¬ (9 = v) := by omega
  have h10 : ¬ (10 = v) := by omega
  have h11 : ¬ (11 = v) := by omega
  have h12 : ¬ (12 = v) := by omega
  have h13 : ¬ (13 = v) := by omega
  have h14 : ¬ (14 = v) := by omega
  simp only [ev_rd, ev_st, aEl, z_w, z_cat, Nat.reduceMod, Nat.reduceDiv, Nat.reduceLeDiff, Nat.reduceLT, Nat.reduceAdd, Nat.reduceMul, Nat.reduceSub, Nat.reduceEqDiff, Int32.reduceLT, Int32.reduceLE, Int32.reduceAdd, Int32.reduceSub, Int32.reduceMul, true_and, and_true, false_and, and_false, true_or, or_true, false_or, or_false, not_true_eq_false, not_false_eq_true, if_true, if_false, reduceIte, ne_eq, and_self, or_self, reduceCtorEq, Option.some.injEq, Prod.mk.injEq, vN_sN, h0, h1, h2, h3, h4, h5, h6, h9, h10, h11, h12, h13, h14]
theorem B_sL (n : Nat) (A : w_A) {v : Nat} (h : v = 3 ∨ v = 12) (i : Nat) (x : List Int32) : z_B n (sL A v i x) = z_B n A := by
  rcases h with rfl | rfl <;> rfl
theorem B_page (n : Nat) (A : w_A) (l : List Int32) : z_B n (fn_page A l) = z_B n A := rfl
theorem B_lost (n : Nat) (A : w_A) : z_B n (fn_lost A) = z_B n A := rfl
theorem B_send (n : Nat) (A : w_A) (c : Nat) : z_B n (fn_send A c) = z_B n A := by
  unfold fn_send
  split <;> rfl
theorem B_hop {n : Nat} {A : w_A} (h : z_B n A) : z_B (n + 1) (fn_hop A) := ⟨h.1, Nat.succ_le_succ h.2.1, h.2.2⟩
theorem B_OWN {n : Nat} {A : w_A} (h : z_B n A) (i : Nat) {x : Nat} (hx : x ≤ 8) : z_B n (sN A 9 i x) := by
  refine ⟨h.1, h.2.1, fun p => ?_, h.2.2.2⟩
  simp only [vN_sN, ev_rd, ev_st, aEl, z_w, z_cat, Nat.reduceMod, Nat.reduceDiv, Nat.reduceLeDiff, Nat.reduceLT, Nat.reduceAdd, Nat.reduceMul, Nat.reduceSub, Nat.reduceEqDiff, Int32.reduceLT, Int32.reduceLE, Int32.reduceAdd, Int32.reduceSub, Int32.reduceMul, true_and, and_true, false_and, and_false, true_or, or_true, false_or, or_false, not_true_eq_false, not_false_eq_true, if_true, if_false, reduceIte, ne_eq, and_self, or_self, reduceCtorEq, Option.some.injEq, Prod.mk.injEq]
  have := h.2.2.1 p
  split <;> omega
theorem B_CAME {n : Nat} {A : w_A} (h : z_B n A) (i : Nat) {x : Nat} (hx : x ≤ 8) : z_B n (sN A 10 i x) := by
  refine ⟨h.1, h.2.1, fun p => ?_, h.2.2.2⟩
  simp only [vN_sN, ev_rd, ev_st, aEl, z_w, z_cat, Nat.reduceMod, Nat.reduceDiv, Nat.reduceLeDiff, Nat.reduceLT, Nat.reduceAdd, Nat.reduceMul, Nat.reduceSub, Nat.reduceEqDiff, Int32.reduceLT, Int32.reduceLE, Int32.reduceAdd, Int32.reduceSub, Int32.reduceMul, true_and, and_true, false_and, and_false, true_or, or_true, false_or, or_false, not_true_eq_false, not_false_eq_true, if_true, if_false, reduceIte, ne_eq, and_self, or_self, reduceCtorEq, Option.some.injEq, Prod.mk.injEq]
  have := h.2.2.1 p
  split <;> omega
theorem B_CPEER {n : Nat} {A : w_A} (h : z_B n A) (i : Nat) {x : Nat} (hx : x ≤ 4) : z_B n (sN A 11 i x) := by
  refine ⟨h.1, h.2.1, h.2.2.1, fun p => ?_, h.2.2.2.2⟩
  simp only [vN_sN, ev_rd, ev_st, aEl, z_w, z_cat, Nat.reduceMod, Nat.reduceDiv, Nat.reduceLeDiff, Nat.reduceLT, Nat.reduceAdd, Nat.reduceMul, Nat.reduceSub, Nat.reduceEqDiff, Int32.reduceLT, Int32.reduceLE, Int32.reduceAdd, Int32.reduceSub, Int32.reduceMul, true_and, and_true, false_and, and_false, true_or, or_true, false_or, or_false, not_true_eq_false, not_false_eq_true, if_true, if_false, reduceIte, ne_eq, and_self, or_self, reduceCtorEq, Option.some.injEq, Prod.mk.injEq]
  have := h.2.2.2.1 p
  split <;> omega
theorem B_INL {n : Nat} {A : w_A} (h : z_B n A) (i : Nat) {x : Nat} (hx : x < 600) : z_B n (sN A 14 i x) := by
  refine ⟨h.1, h.2.1, h.2.2.1, fun p => ?_, h.2.2.2.2⟩
  simp only [vN_sN, ev_rd, ev_st, aEl, z_w, z_cat, Nat.reduceMod, Nat.reduceDiv, Nat.reduceLeDiff, Nat.reduceLT, Nat.reduceAdd, Nat.reduceMul, Nat.reduceSub, Nat.reduceEqDiff, Int32.reduceLT, Int32.reduceLE, Int32.reduceAdd, Int32.reduceSub, Int32.reduceMul, true_and, and_true, false_and, and_false, true_or, or_true, false_or, or_false, not_true_eq_false, not_false_eq_true, if_true, if_false, reduceIte, ne_eq, and_self, or_self, reduceCtorEq, Option.some.injEq, Prod.mk.injEq]
  have := h.2.2.2.1 p
  split <;> omega
theorem B_QPEER {n : Nat} {A : w_A} (h : z_B n A) (i : Nat) {x : Nat} (hx : x ≤ 4) : z_B n (sN A 12 i x) := by
  refine ⟨h.1, h.2.1, h.2.2.1, h.2.2.2.1, fun p => ?_, h.2.2.2.2.2⟩
  simp only [vN_sN, ev_rd, ev_st, aEl, z_w, z_cat, Nat.reduceMod, Nat.reduceDiv, Nat.reduceLeDiff, Nat.reduceLT, Nat.reduceAdd, Nat.reduceMul, Nat.reduceSub, Nat.reduceEqDiff, Int32.reduceLT, Int32.reduceLE, Int32.reduceAdd, Int32.reduceSub, Int32.reduceMul, true_and, and_true, false_and, and_false, true_or, or_true, false_or, or_false, not_true_eq_false, not_false_eq_true, if_true, if_false, reduceIte, ne_eq, and_self, or_self, reduceCtorEq, Option.some.injEq, Prod.mk.injEq]
  have := h.2.2.2.2.1 p
  split <;> omega
theorem B_HOPS {n : Nat} {A : w_A} (h : z_B n A) {x m : Nat} (hx : x ≤ m) : z_B m (sN A 6 0 x) := ⟨h.1, hx, h.2.2⟩
/-! what is read behind a send -/
theorem vN_send (A : w_A) (c v i : Nat) : vN (fn_send A c) v i = vN A v i := by unfold fn_send; split <;> rfl
theorem vJ_send (A : w_A) (c v i : Nat) : vJ (fn_send A c) v i = vJ A v i := by unfold fn_send; split <;> rfl
theorem vP_send (A : w_A) (c : Nat) : vP (fn_send A c) = vP A := by unfold fn_send; split <;> rfl
theorem vI_send (A : w_A) (c : Nat) {v : Nat} (h : v ≠ 14) (i : Nat) : vI (fn_send A c) v i = vI A v i := by
  unfold fn_send
  split
  · rfl
  · show vI (sI A 14 0 _) v i = _
    rw [vI_sI, if_neg (fun e => h e.1)]
theorem vL_send (A : w_A) (c : Nat) {v : Nat} (h : v ≠ 3) (i : Nat) : vL (fn_send A c) v i = vL A v i := by
  unfold fn_send
  split
  · rw [vL_sL, if_neg (fun e => h e.1)]
  · rfl
theorem fn_send_y {A : w_A} {c : Nat} (h : (vL A 3 c).length + (vL A 12 0).length ≤ 2000) : fn_send A c = sL A 3 c (vL A 3 c ++ fn_fix (vL A 12 0)) := if_pos h
theorem fn_send_n {A : w_A} {c : Nat} (h : ¬ (vL A 3 c).length + (vL A 12 0).length ≤ 2000) : fn_send A c = fn_lost A := if_neg h
theorem sN_send (A : w_A) (c v i : Nat) (x : Nat) : sN (fn_send A c) v i x = fn_send (sN A v i x) c := by
  by_cases h : (vL A 3 c).length + (vL A 12 0).length ≤ 2000
  · rw [fn_send_y h, fn_send_y (A := sN A v i x) h]; rfl
  · rw [fn_send_n h, fn_send_n (A := sN A v i x) h]; rfl
theorem sJ_send (A : w_A) (c v i : Nat) (x : Int64) : sJ (fn_send A c) v i x = fn_send (sJ A v i x) c := by
  by_cases h : (vL A 3 c).length + (vL A 12 0).length ≤ 2000
  · rw [fn_send_y h, fn_send_y (A := sJ A v i x) h]; rfl
  · rw [fn_send_n h, fn_send_n (A := sJ A v i x) h]; rfl
theorem sP_send (A : w_A) (c : Nat) (x : Option w_P) : sP (fn_send A c) x = fn_send (sP A x) c := by
  by_cases h : (vL A 3 c).length + (vL A 12 0).length ≤ 2000
  · rw [fn_send_y h, fn_send_y (A := sP A x) h]; rfl
  · rw [fn_send_n h, fn_send_n (A := sP A x) h]; rfl
theorem sI_send (A : w_A) (c : Nat) {v : Nat} (h : v ≠ 14) (i : Nat) (x : Int32) : sI (fn_send A c) v i x = fn_send (sI A v i x) c := by
  by_cases h1 : (vL A 3 c).length + (vL A 12 0).length ≤ 2000
  · rw [fn_send_y h1, fn_send_y (A := sI A v i x) h1]; rfl
  · rw [fn_send_n h1, fn_send_n (A := sI A v i x) h1]
    have e : vI (sI A v i x) 14 0 = vI A 14 0 := by rw [vI_sI, if_neg (fun e => h e.1.symm)]
    show sI (sI A 14 0 (vI A 14 0 + 1)) v i x = sI (sI A v i x) 14 0 (vI (sI A v i x) 14 0 + 1)
    rw [e]
    rcases Nat.lt_or_gt_of_ne h with g | g
    · exact sI_or A g 0 i _ _
    · exact (sI_or A g i 0 _ _).symm
theorem fn_me_sI (A : w_A) (v i : Nat) (x : Int32) : fn_me (sI A v i x) = fn_me A := rfl
theorem fn_me_sJ (A : w_A) (v i : Nat) (x : Int64) : fn_me (sJ A v i x) = fn_me A := rfl
theorem fn_me_sN (A : w_A) (v i : Nat) (x : Nat) : fn_me (sN A v i x) = fn_me A := rfl
theorem fn_me_sP (A : w_A) (x : Option w_P) : fn_me (sP A x) = fn_me A := rfl
theorem fn_me_page (A : w_A) (l : List Int32) : fn_me (fn_page A l) = fn_me A := rfl
theorem sI_page (A : w_A) (l : List Int32) (v i : Nat) (x : Int32) : sI (fn_page A l) v i x = fn_page (sI A v i x) l := rfl
theorem sJ_page (A : w_A) (l : List Int32) (v i : Nat) (x : Int64) : sJ (fn_page A l) v i x = fn_page (sJ A v i x) l := rfl
theorem sN_page (A : w_A) (l : List Int32) (v i : Nat) (x : Nat) : sN (fn_page A l) v i x = fn_page (sN A v i x) l := rfl
theorem sP_page (A : w_A) (l : List Int32) (x : Option w_P) : sP (fn_page A l) x = fn_page (sP A x) l := rfl
theorem vI_page (A : w_A) (l : List Int32) (v i : Nat) : vI (fn_page A l) v i = vI A v i := rfl
theorem vJ_page (A : w_A) (l : List Int32) (v i : Nat) : vJ (fn_page A l) v i = vJ A v i := rfl
theorem vN_page (A : w_A) (l : List Int32) (v i : Nat) : vN (fn_page A l) v i = vN A v i := rfl
theorem vP_page (A : w_A) (l : List Int32) : vP (fn_page A l) = vP A := rfl
theorem vL_page (A : w_A) (l : List Int32) {v : Nat} (h : v ≠ 12) (i : Nat) : vL (fn_page A l) v i = vL A v i := by
  show vL (sL A 12 0 l) v i = _
  rw [vL_sL, if_neg (fun e => h e.1)]
