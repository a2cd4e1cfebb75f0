/-! PART 71b (src 71b.mforget.src): a session goes (twin) -/
set_option maxHeartbeats 800000
theorem A_ext {A B : w_A} (hI : ∀ v i, vI A v i = vI B v i) (hJ : ∀ v i, vJ A v i = vJ B v i) (hN : ∀ v i, vN A v i = vN B v i) (hL : ∀ v i, vL A v i = vL B v i) (hP : vP A = vP B) : A = B := by
  obtain ⟨a1, a2, a3, a4, a5⟩ := A
  obtain ⟨b1, b2, b3, b4, b5⟩ := B
  have e1 : a1 = b1 := funext fun v => funext fun i => hI v i
  have e2 : a2 = b2 := funext fun v => funext fun i => hJ v i
  have e3 : a3 = b3 := funext fun v => funext fun i => hN v i
  have e4 : a4 = b4 := funext fun v => funext fun i => hL v i
  have e5 : a5 = b5 := hP
  rw [e1, e2, e3, e4, e5]
/-- sessions from s on have moved down as far as place j -/
def fn_shs (A : w_A) (j s : Nat) : w_A := tL (tL (tL (tI (tI (tJ (tJ (tN A 13 (fn_sh j s (vN A 13))) 5 (fn_sh j s (vJ A 5))) 6 (fn_sh j s (vJ A 6))) 20 (fn_sh j s (vI A 20))) 21 (fn_sh j s (vI A 21))) 4 (fn_sh j s (vL A 4))) 5 (fn_sh j s (vL A 5))) 6 (fn_sh j s (vL A 6))
/-- one session moved down -/
def fn_mv (A : w_A) (j : Nat) : w_A := sI (sI (sJ (sJ (sN (sL (sL (sL A 4 j (vL A 4 (j + 1))) 5 j (vL A 5 (j + 1))) 6 j (vL A 6 (j + 1))) 13 j (vN A 13 (j + 1))) 5 j (vJ A 5 (j + 1))) 6 j (vJ A 6 (j + 1))) 20 j (vI A 20 (j + 1))) 21 j (vI A 21 (j + 1))
theorem sh_s {α : Type} {j s : Nat} (h : s ≤ j) (r : Nat → α) (i : Nat) : (if i = j then fn_sh j s r (j + 1) else fn_sh j s r i) = fn_sh (j + 1) s r i := by
  unfold fn_sh
  by_cases e : i = j
  · subst e
    rw [if_pos rfl, if_neg (by omega), if_pos (by omega)]
  · rw [if_neg e]
    by_cases h1 : s ≤ i ∧ i < j
    · rw [if_pos h1, if_pos (by omega)]
    · rw [if_neg h1, if_neg (by omega)]
theorem sh_0 {α : Type} (s : Nat) (r : Nat → α) : fn_sh s s r = r := by
  funext i
  unfold fn_sh
  rw [if_neg (by omega)]
theorem tN_id (A : w_A) (v : Nat) : tN A v (vN A v) = A := by
  refine A_ext (fun _ _ => rfl) (fun _ _ => rfl) (fun w i => ?_) (fun _ _ => rfl) rfl
  rw [vN_tN]
  split
  · rename_i h; rw [h]
  · rfl
theorem mv_shs {A : w_A} {j s : Nat} (h : s ≤ j) : fn_mv (fn_shs A j s) j = fn_shs A (j + 1) s := by
  refine A_ext (fun v i => ?_) (fun v i => ?_) (fun v i => ?_) (fun v i => ?_) rfl
  · unfold fn_mv fn_shs
    simp only [ev_rd, ev_st, aEl, z_w, z_cat, Nat.reduceMod, Nat.reduceDiv, Nat.reduceLeDiff, Nat.reduceLT, Nat.reduceAdd, Nat.reduceMul, Nat.reduceSub, Nat.reduceEqDiff, Int32.reduceLT, Int32.reduceLE, Int32.reduceAdd, Int32.reduceSub, Int32.reduceMul, true_and, and_true, false_and, and_false, true_or, or_true, false_or, or_false, not_true_eq_false, not_false_eq_true, if_true, if_false, reduceIte, ne_eq, and_self, or_self, reduceCtorEq, Option.some.injEq, Prod.mk.injEq, vI_sI, vI_tI]
    by_cases h1 : v = 21
    · subst h1; simp only [ev_rd, ev_st, aEl, z_w, z_cat, Nat.reduceMod, Nat.reduceDiv, Nat.reduceLeDiff, Nat.reduceLT, Nat.reduceAdd, Nat.reduceMul, Nat.reduceSub, Nat.reduceEqDiff, Int32.reduceLT, Int32.reduceLE, Int32.reduceAdd, Int32.reduceSub, Int32.reduceMul, true_and, and_true, false_and, and_false, true_or, or_true, false_or, or_false, not_true_eq_false, not_false_eq_true, if_true, if_false, reduceIte, ne_eq, and_self, or_self, reduceCtorEq, Option.some.injEq, Prod.mk.injEq]; exact sh_s h _ _
    · by_cases h2 : v = 20
      · subst h2; simp only [ev_rd, ev_st, aEl, z_w, z_cat, Nat.reduceMod, Nat.reduceDiv, Nat.reduceLeDiff, Nat.reduceLT, Nat.reduceAdd, Nat.reduceMul, Nat.reduceSub, Nat.reduceEqDiff, Int32.reduceLT, Int32.reduceLE, Int32.reduceAdd, Int32.reduceSub, Int32.reduceMul, true_and, and_true, false_and, and_false, true_or, or_true, false_or, or_false, not_true_eq_false, not_false_eq_true, if_true, if_false, reduceIte, ne_eq, and_self, or_self, reduceCtorEq, Option.some.injEq, Prod.mk.injEq]; exact sh_s h _ _
      · simp only [h1, h2, ev_rd, ev_st, aEl, z_w, z_cat, Nat.reduceMod, Nat.reduceDiv, Nat.reduceLeDiff, Nat.reduceLT, Nat.reduceAdd, Nat.reduceMul, Nat.reduceSub, Nat.reduceEqDiff, Int32.reduceLT, Int32.reduceLE, Int32.reduceAdd, Int32.reduceSub, Int32.reduceMul, true_and, and_true, false_and, and_false, true_or, or_true, false_or, or_false, not_true_eq_false, not_false_eq_true, if_true, if_false, reduceIte, ne_eq, and_self, or_self, reduceCtorEq, Option.some.injEq, Prod.mk.injEq]
  · unfold fn_mv fn_shs
    simp only [ev_rd, ev_st, aEl, z_w, z_cat, Nat.reduceMod, Nat.reduceDiv, Nat.reduceLeDiff, Nat.reduceLT, Nat.reduceAdd, Nat.reduceMul, Nat.reduceSub, Nat.reduceEqDiff, Int32.reduceLT, Int32.reduceLE, Int32.reduceAdd, Int32.reduceSub, Int32.reduceMul, true_and, and_true, false_and, and_false, true_or, or_true, false_or, or_false, not_true_eq_false, not_false_eq_true, if_true, if_false, reduceIte, ne_eq, and_self, or_self, reduceCtorEq, Option.some.injEq, Prod.mk.injEq, vJ_sJ, vJ_tJ]
    by_cases h1 : v = 5
    · subst h1; simp only [ev_rd, ev_st, aEl, z_w, z_cat, Nat.reduceMod, Nat.reduceDiv, Nat.reduceLeDiff, Nat.reduceLT, Nat.reduceAdd, Nat.reduceMul, Nat.reduceSub, Nat.reduceEqDiff, Int32.reduceLT, Int32.reduceLE, Int32.reduceAdd, Int32.reduceSub, Int32.reduceMul, true_and, and_true, false_and, and_false, true_or, or_true, false_or, or_false, not_true_eq_false, not_false_eq_true, if_true, if_false, reduceIte, ne_eq, and_self, or_self, reduceCtorEq, Option.some.injEq, Prod.mk.injEq]; exact sh_s h _ _
    · by_cases h2 : v = 6
      · subst h2; simp only [ev_rd, ev_st, aEl, z_w, z_cat, Nat.reduceMod, Nat.reduceDiv, Nat.reduceLeDiff, Nat.reduceLT, Nat.reduceAdd, Nat.reduceMul, Nat.reduceSub, Nat.reduceEqDiff, Int32.reduceLT, Int32.reduceLE, Int32.reduceAdd, Int32.reduceSub, Int32.reduceMul, true_and, and_true, false_and, and_false, true_or, or_true, false_or, or_false, not_true_eq_false, not_false_eq_true, if_true, if_false, reduceIte, ne_eq, and_self, or_self, reduceCtorEq, Option.some.injEq, Prod.mk.injEq]; exact sh_s h _ _
      · simp only [h1, h2, ev_rd, ev_st, aEl, z_w, z_cat, Nat.reduceMod, Nat.reduceDiv, Nat.reduceLeDiff, Nat.reduceLT, Nat.reduceAdd, Nat.reduceMul, Nat.reduceSub, Nat.reduceEqDiff, Int32.reduceLT, Int32.reduceLE, Int32.reduceAdd, Int32.reduceSub, Int32.reduceMul, true_and, and_true, false_and, and_false, true_or, or_true, false_or, or_false, not_true_eq_false, not_false_eq_true, if_true, if_false, reduceIte, ne_eq, and_self, or_self, reduceCtorEq, Option.some.injEq, Prod.mk.injEq]
  · unfold fn_mv fn_shs
    simp only [ev_rd, ev_st, aEl, z_w, z_cat, Nat.reduceMod, Nat.reduceDiv, Nat.reduceLeDiff, Nat.reduceLT, Nat.reduceAdd, Nat.reduceMul, Nat.reduceSub, Nat.reduceEqDiff, Int32.reduceLT, Int32.reduceLE, Int32.reduceAdd, Int32.reduceSub, Int32.reduceMul, true_and, and_true, false_and, and_false, true_or, or_true, false_or, or_false, not_true_eq_false, not_false_eq_true, if_true, if_false, reduceIte, ne_eq, and_self, or_self, reduceCtorEq, Option.some.injEq, Prod.mk.injEq, vN_sN, vN_tN]
    by_cases h1 : v = 13
    · subst h1; simp only [ev_rd, ev_st, aEl, z_w, z_cat, Nat.reduceMod, Nat.reduceDiv, Nat.reduceLeDiff, Nat.reduceLT, Nat.reduceAdd, Nat.reduceMul, Nat.reduceSub, Nat.reduceEqDiff, Int32.reduceLT, Int32.reduceLE, Int32.reduceAdd, Int32.reduceSub, Int32.reduceMul, true_and, and_true, false_and, and_false, true_or, or_true, false_or, or_false, not_true_eq_false, not_false_eq_true, if_true, if_false, reduceIte, ne_eq, and_self, or_self, reduceCtorEq, Option.some.injEq, Prod.mk.injEq]; exact sh_s h _ _
    · simp only [h1, ev_rd, ev_st, aEl, z_w, z_cat, Nat.reduceMod, Nat.reduceDiv, Nat.reduceLeDiff, Nat.reduceLT, Nat.reduceAdd, Nat.reduceMul, Nat.reduceSub, Nat.reduceEqDiff, Int32.reduceLT, Int32.reduceLE, Int32.reduceAdd, Int32.reduceSub, Int32.reduceMul, true_and, and_true, false_and, and_false, true_or, or_true, false_or, or_false, not_true_eq_false, not_false_eq_true, if_true, if_false, reduceIte, ne_eq, and_self, or_self, reduceCtorEq, Option.some.injEq, Prod.mk.injEq]
  · unfold fn_mv fn_shs
    simp only [ev_rd, ev_st, aEl, z_w, z_cat, Nat.reduceMod, Nat.reduceDiv, Nat.reduceLeDiff, Nat.reduceLT, Nat.reduceAdd, Nat.reduceMul, Nat.reduceSub, Nat.reduceEqDiff, Int32.reduceLT, Int32.reduceLE, Int32.reduceAdd, Int32.reduceSub, Int32.reduceMul, true_and, and_true, false_and, and_false, true_or, or_true, false_or, or_false, not_true_eq_false, not_false_eq_true, if_true, if_false, reduceIte, ne_eq, and_self, or_self, reduceCtorEq, Option.some.injEq, Prod.mk.injEq, vL_sL, vL_tL]
    by_cases h1 : v = 6
    · subst h1; simp only [ev_rd, ev_st, aEl, z_w, z_cat, Nat.reduceMod, Nat.reduceDiv, Nat.reduceLeDiff, Nat.reduceLT, Nat.reduceAdd, Nat.reduceMul, Nat.reduceSub, Nat.reduceEqDiff, Int32.reduceLT, Int32.reduceLE, Int32.reduceAdd, Int32.reduceSub, Int32.reduceMul, true_and, and_true, false_and, and_false, true_or, or_true, false_or, or_false, not_true_eq_false, not_false_eq_true, if_true, if_false, reduceIte, ne_eq, and_self, or_self, reduceCtorEq, Option.some.injEq, Prod.mk.injEq]; exact sh_s h _ _
    · by_cases h2 : v = 5
      · subst h2; simp only [ev_rd, ev_st, aEl, z_w, z_cat, Nat.reduceMod, Nat.reduceDiv, Nat.reduceLeDiff, Nat.reduceLT, Nat.reduceAdd, Nat.reduceMul, Nat.reduceSub, Nat.reduceEqDiff, Int32.reduceLT, Int32.reduceLE, Int32.reduceAdd, Int32.reduceSub, Int32.reduceMul, true_and, and_true, false_and, and_false, true_or, or_true, false_or, or_false, not_true_eq_false, not_false_eq_true, if_true, if_false, reduceIte, ne_eq, and_self, or_self, reduceCtorEq, Option.some.injEq, Prod.mk.injEq]; exact sh_s h _ _
      · by_cases h3 : v = 4
        · subst h3; simp only [ev_rd, ev_st, aEl, z_w, z_cat, Nat.reduceMod, Nat.reduceDiv, Nat.reduceLeDiff, Nat.reduceLT, Nat.reduceAdd, Nat.reduceMul, Nat.reduceSub, Nat.reduceEqDiff, Int32.reduceLT, Int32.reduceLE, Int32.reduceAdd, Int32.reduceSub, Int32.reduceMul, true_and, and_true, false_and, and_false, true_or, or_true, false_or, or_false, not_true_eq_false, not_false_eq_true, if_true, if_false, reduceIte, ne_eq, and_self, or_self, reduceCtorEq, Option.some.injEq, Prod.mk.injEq]; exact sh_s h _ _
        · simp only [h1, h2, h3, ev_rd, ev_st, aEl, z_w, z_cat, Nat.reduceMod, Nat.reduceDiv, Nat.reduceLeDiff, Nat.reduceLT, Nat.reduceAdd, Nat.reduceMul, Nat.reduceSub, Nat.reduceEqDiff, Int32.reduceLT, Int32.reduceLE, Int32.reduceAdd, Int32.reduceSub, Int32.reduceMul, true_and, and_true, false_and, and_false, true_or, or_true, false_or, or_false, not_true_eq_false, not_false_eq_true, if_true, if_false, reduceIte, ne_eq, and_self, or_self, reduceCtorEq, Option.some.injEq, Prod.mk.injEq]
theorem shs_0 (A : w_A) (s : Nat) : fn_shs A s s = A := by
  unfold fn_shs
  simp only [sh_0]
  refine A_ext (fun v i => ?_) (fun v i => ?_) (fun v i => ?_) (fun v i => ?_) rfl
  · simp only [ev_rd, ev_st, aEl, z_w, z_cat, Nat.reduceMod, Nat.reduceDiv, Nat.reduceLeDiff, Nat.reduceLT, Nat.reduceAdd, Nat.reduceMul, Nat.reduceSub, Nat.reduceEqDiff, Int32.reduceLT, Int32.reduceLE, Int32.reduceAdd, Int32.reduceSub, Int32.reduceMul, true_and, and_true, false_and, and_false, true_or, or_true, false_or, or_false, not_true_eq_false, not_false_eq_true, if_true, if_false, reduceIte, ne_eq, and_self, or_self, reduceCtorEq, Option.some.injEq, Prod.mk.injEq, vI_tI]
    by_cases h1 : v = 21
    · subst h1; simp only [ev_rd, ev_st, aEl, z_w, z_cat, Nat.reduceMod, Nat.reduceDiv, Nat.reduceLeDiff, Nat.reduceLT, Nat.reduceAdd, Nat.reduceMul, Nat.reduceSub, Nat.reduceEqDiff, Int32.reduceLT, Int32.reduceLE, Int32.reduceAdd, Int32.reduceSub, Int32.reduceMul, true_and, and_true, false_and, and_false, true_or, or_true, false_or, or_false, not_true_eq_false, not_false_eq_true, if_true, if_false, reduceIte, ne_eq, and_self, or_self, reduceCtorEq, Option.some.injEq, Prod.mk.injEq]
    · by_cases h2 : v = 20
      · subst h2; simp only [ev_rd, ev_st, aEl, z_w, z_cat, Nat.reduceMod, Nat.reduceDiv, Nat.reduceLeDiff, Nat.reduceLT, Nat.reduceAdd, Nat.reduceMul, Nat.reduceSub, Nat.reduceEqDiff, Int32.reduceLT, Int32.reduceLE, Int32.reduceAdd, Int32.reduceSub, Int32.reduceMul, true_and, and_true, false_and, and_false, true_or, or_true, false_or, or_false, not_true_eq_false, not_false_eq_true, if_true, if_false, reduceIte, ne_eq, and_self, or_self, reduceCtorEq, Option.some.injEq, Prod.mk.injEq]
      · simp only [h1, h2, ev_rd, ev_st, aEl, z_w, z_cat, Nat.reduceMod, Nat.reduceDiv, Nat.reduceLeDiff, Nat.reduceLT, Nat.reduceAdd, Nat.reduceMul, Nat.reduceSub, Nat.reduceEqDiff, Int32.reduceLT, Int32.reduceLE, Int32.reduceAdd, Int32.reduceSub, Int32.reduceMul, true_and, and_true, false_and, and_false, true_or, or_true, false_or, or_false, not_true_eq_false, not_false_eq_true, if_true, if_false, reduceIte, ne_eq, and_self, or_self, reduceCtorEq, Option.some.injEq, Prod.mk.injEq]
  · simp only [ev_rd, ev_st, aEl, z_w, z_cat, Nat.reduceMod, Nat.reduceDiv, Nat.reduceLeDiff, Nat.reduceLT, Nat.reduceAdd, Nat.reduceMul, Nat.reduceSub, Nat.reduceEqDiff, Int32.reduceLT, Int32.reduceLE, Int32.reduceAdd, Int32.reduceSub, Int32.reduceMul, true_and, and_true, false_and, and_false, true_or, or_true, false_or, or_false, not_true_eq_false, not_false_eq_true, if_true, if_false, reduceIte, ne_eq, and_self, or_self, reduceCtorEq, Option.some.injEq, Prod.mk.injEq, vJ_tJ]
    by_cases h1 : v = 5
    · subst h1; simp only [ev_rd, ev_st, aEl, z_w, z_cat, Nat.reduceMod, Nat.reduceDiv, Nat.reduceLeDiff, Nat.reduceLT, Nat.reduceAdd, Nat.reduceMul, Nat.reduceSub, Nat.reduceEqDiff, Int32.reduceLT, Int32.reduceLE, Int32.reduceAdd, Int32.reduceSub, Int32.reduceMul, true_and, and_true, false_and, and_false, true_or, or_true, false_or, or_false, not_true_eq_false, not_false_eq_true, if_true, if_false, reduceIte, ne_eq, and_self, or_self, reduceCtorEq, Option.some.injEq, Prod.mk.injEq]
    · by_cases h2 : v = 6
      · subst h2; simp only [ev_rd, ev_st, aEl, z_w, z_cat, Nat.reduceMod, Nat.reduceDiv, Nat.reduceLeDiff, Nat.reduceLT, Nat.reduceAdd, Nat.reduceMul, Nat.reduceSub, Nat.reduceEqDiff, Int32.reduceLT, Int32.reduceLE, Int32.reduceAdd, Int32.reduceSub, Int32.reduceMul, true_and, and_true, false_and, and_false, true_or, or_true, false_or, or_false, not_true_eq_false, not_false_eq_true, if_true, if_false, reduceIte, ne_eq, and_self, or_self, reduceCtorEq, Option.some.injEq, Prod.mk.injEq]
      · simp only [h1, h2, ev_rd, ev_st, aEl, z_w, z_cat, Nat.reduceMod, Nat.reduceDiv, Nat.reduceLeDiff, Nat.reduceLT, Nat.reduceAdd, Nat.reduceMul, Nat.reduceSub, Nat.reduceEqDiff, Int32.reduceLT, Int32.reduceLE, Int32.reduceAdd, Int32.reduceSub, Int32.reduceMul, true_and, and_true, false_and, and_false, true_or, or_true, false_or, or_false, not_true_eq_false, not_false_eq_true, if_true, if_false, reduceIte, ne_eq, and_self, or_self, reduceCtorEq, Option.some.injEq, Prod.mk.injEq]
  · simp only [ev_rd, ev_st, aEl, z_w, z_cat, Nat.reduceMod, Nat.reduceDiv, Nat.reduceLeDiff, Nat.reduceLT, Nat.reduceAdd, Nat.reduceMul, Nat.reduceSub, Nat.reduceEqDiff, Int32.reduceLT, Int32.reduceLE, Int32.reduceAdd, Int32.reduceSub, Int32.reduceMul, true_and, and_true, false_and, and_false, true_or, or_true, false_or, or_false, not_true_eq_false, not_false_eq_true, if_true, if_false, reduceIte, ne_eq, and_self, or_self, reduceCtorEq, Option.some.injEq, Prod.mk.injEq, vN_tN]
    by_cases h1 : v = 13
    · subst h1; simp only [ev_rd, ev_st, aEl, z_w, z_cat, Nat.reduceMod, Nat.reduceDiv, Nat.reduceLeDiff, Nat.reduceLT, Nat.reduceAdd, Nat.reduceMul, Nat.reduceSub, Nat.reduceEqDiff, Int32.reduceLT, Int32.reduceLE, Int32.reduceAdd, Int32.reduceSub, Int32.reduceMul, true_and, and_true, false_and, and_false, true_or, or_true, false_or, or_false, not_true_eq_false, not_false_eq_true, if_true, if_false, reduceIte, ne_eq, and_self, or_self, reduceCtorEq, Option.some.injEq, Prod.mk.injEq]
    · simp only [h1, ev_rd, ev_st, aEl, z_w, z_cat, Nat.reduceMod, Nat.reduceDiv, Nat.reduceLeDiff, Nat.reduceLT, Nat.reduceAdd, Nat.reduceMul, Nat.reduceSub, Nat.reduceEqDiff, Int32.reduceLT, Int32.reduceLE, Int32.reduceAdd, Int32.reduceSub, Int32.reduceMul, true_and, and_true, false_and, and_false, true_or, or_true, false_or, or_false, not_true_eq_false, not_false_eq_true, if_true, if_false, reduceIte, ne_eq, and_self, or_self, reduceCtorEq, Option.some.injEq, Prod.mk.injEq]
  · simp only [ev_rd, ev_st, aEl, z_w, z_cat, Nat.reduceMod, Nat.reduceDiv, Nat.reduceLeDiff, Nat.reduceLT, Nat.reduceAdd, Nat.reduceMul, Nat.reduceSub, Nat.reduceEqDiff, Int32.reduceLT, Int32.reduceLE, Int32.reduceAdd, Int32.reduceSub, Int32.reduceMul, true_and, and_true, false_and, and_false, true_or, or_true, false_or, or_false, not_true_eq_false, not_false_eq_true, if_true, if_false, reduceIte, ne_eq, and_self, or_self, reduceCtorEq, Option.some.injEq, Prod.mk.injEq, vL_tL]
    by_cases h1 : v = 6
    · subst h1; simp only [ev_rd, ev_st, aEl, z_w, z_cat, Nat.reduceMod, Nat.reduceDiv, Nat.reduceLeDiff, Nat.reduceLT, Nat.reduceAdd, Nat.reduceMul, Nat.reduceSub, Nat.reduceEqDiff, Int32.reduceLT, Int32.reduceLE, Int32.reduceAdd, Int32.reduceSub, Int32.reduceMul, true_and, and_true, false_and, and_false, true_or, or_true, false_or, or_false, not_true_eq_false, not_false_eq_true, if_true, if_false, reduceIte, ne_eq, and_self, or_self, reduceCtorEq, Option.some.injEq, Prod.mk.injEq]
    · by_cases h2 : v = 5
      · subst h2; simp only [ev_rd, ev_st, aEl, z_w, z_cat, Nat.reduceMod, Nat.reduceDiv, Nat.reduceLeDiff, Nat.reduceLT, Nat.reduceAdd, Nat.reduceMul, Nat.reduceSub, Nat.reduceEqDiff, Int32.reduceLT, Int32.reduceLE, Int32.reduceAdd, Int32.reduceSub, Int32.reduceMul, true_and, and_true, false_and, and_false, true_or, or_true, false_or, or_false, not_true_eq_false, not_false_eq_true, if_true, if_false, reduceIte, ne_eq, and_self, or_self, reduceCtorEq, Option.some.injEq, Prod.mk.injEq]
      · by_cases h3 : v = 4
        · subst h3; simp only [ev_rd, ev_st, aEl, z_w, z_cat, Nat.reduceMod, Nat.reduceDiv, Nat.reduceLeDiff, Nat.reduceLT, Nat.reduceAdd, Nat.reduceMul, Nat.reduceSub, Nat.reduceEqDiff, Int32.reduceLT, Int32.reduceLE, Int32.reduceAdd, Int32.reduceSub, Int32.reduceMul, true_and, and_true, false_and, and_false, true_or, or_true, false_or, or_false, not_true_eq_false, not_false_eq_true, if_true, if_false, reduceIte, ne_eq, and_self, or_self, reduceCtorEq, Option.some.injEq, Prod.mk.injEq]
        · simp only [h1, h2, h3, ev_rd, ev_st, aEl, z_w, z_cat, Nat.reduceMod, Nat.reduceDiv, Nat.reduceLeDiff, Nat.reduceLT, Nat.reduceAdd, Nat.reduceMul, Nat.reduceSub, Nat.reduceEqDiff, Int32.reduceLT, Int32.reduceLE, Int32.reduceAdd, Int32.reduceSub, Int32.reduceMul, true_and, and_true, false_and, and_false, true_or, or_true, false_or, or_false, not_true_eq_false, not_false_eq_true, if_true, if_false, reduceIte, ne_eq, and_self, or_self, reduceCtorEq, Option.some.injEq, Prod.mk.injEq]
theorem wm_SESSd {T σ : z_St} {A : w_A} (h : w_M T σ A) {x : Nat} (hx : x ≤ vN A 2 0) : w_M T (wI σ 8 40 0 (Int32.ofNat x)) (sN A 2 0 x) := by
  obtain ⟨hT, hA, hB, hC, hD, hG, hH, hI, hJ, hK, hL, hM, hN⟩ := h
  refine ⟨m_T_wI hT (z_isM_yes _ rfl), hA, hB, ⟨hC.1, hC.2.1, rfl, hC.2.2.2⟩, hD, hG, hH, hI, ⟨hJ.1, fun r hr => ?_⟩, hK, hL, hM, hN⟩
  have hr' : r < x := hr
  exact hJ.2 r (by omega)
/-- the names of sessions are names -/
def z_SN (A : w_A) : Prop := ∀ r, r < vN A 2 0 → z_nm (vL A 4 r) ∧ z_nm (vL A 5 r) ∧ z_nm (vL A 6 r)
theorem shs_SN {A : w_A} {j s : Nat} (h : z_SN A) (hj : j < vN A 2 0) : z_SN (fn_shs A j s) := by
  intro r hr
  have hr' : r < vN A 2 0 := hr
  show z_nm (fn_sh j s (vL A 4) r) ∧ z_nm (fn_sh j s (vL A 5) r) ∧ z_nm (fn_sh j s (vL A 6) r)
  unfold fn_sh
  by_cases e : s ≤ r ∧ r < j
  · rw [if_pos e, if_pos e, if_pos e]; exact h (r + 1) (by omega)
  · rw [if_neg e, if_neg e, if_neg e]; exact h r hr'
theorem ml_mv {T σ : z_St} {A : w_A} (hM : w_M T σ A) {d j : Nat} (hj : j + 1 < vN A 2 0) (hl : vN A 2 0 ≤ 16) (hs : z_SN A) (hg : ∀ r, r < 16 → ¬ vN A 16 0 = r + 1) {Q : z_St → Option z_V → Prop} (k : ∀ σ, w_M T σ (fn_mv A j) → wp (E xP140 (zD (d + 1)) 1 [some (.inr (.inr (some (8, 0)))), none, some (.inl (Int32.ofNat (j + 1)))] [] σ) Q) :
    wp (E xP140 (zD (d + 1)) 2 [some (.inr (.inr (some (8, 0)))), none, some (.inl (Int32.ofNat j))] [] σ) Q := by
  have hj31 : j < 2147483648 := by omega
  have hj32 : j + 1 < 2147483648 := by omega
  obtain ⟨n1, n2, n3⟩ := hs (j + 1) hj
  have z1 : ∀ r, r < vN A 2 0 → (vL A 4 r).length ≤ 40 := fun r hr => (hs r hr).1.1
  have z2 : ∀ r, r < vN A 2 0 → (vL A 5 r).length ≤ 40 := fun r hr => (hs r hr).2.1.1
  have z3 : ∀ r, r < vN A 2 0 → (vL A 6 r).length ≤ 40 := fun r hr => (hs r hr).2.2.1
  have hx : (41 * Int32.ofNat j) + 41 = Int32.ofNat (41 * (j + 1)) := by rw [io_lmul, io_add_l]; rfl
  have hy : 41 * Int32.ofNat j = Int32.ofNat (41 * j) := io_lmul j 41
  obtain ⟨-, -, -, -, -, g1, g2, g3⟩ := (rm_J hM).2 (j + 1) hj
  refine wp_eq (e140_2 ..) (wp_cv ?_)
  rw [rm_p41 hM, hx, hy]
  refine mc_copyRow aty_40915473 aty_40915473 (by rw [alen_40915473]; omega) (by rw [alen_40915473]; omega) (by rw [alen_40915473]; decide) (by rw [alen_40915473]; decide) (fun _ => by omega) ⟨rfl, ?_⟩
  obtain ⟨c1, c2, c3⟩ := cp_nm (h := gI σ 40915473 0) (y := 41 * j) n1 g1.1 g1.2
  have hM := wm_SNAME hM (s := j) (by omega) z1 n1.1 c1 c2 c3
  generalize rI σ 40915473 0 _ = σ at hM
  obtain ⟨-, -, -, -, -, -, g2, g3⟩ := (rm_J hM).2 (j + 1) hj
  refine wp_cv ?_
  rw [rm_p42 hM]
  refine mc_copyRow aty_41964049 aty_41964049 (by rw [alen_41964049]; omega) (by rw [alen_41964049]; omega) (by rw [alen_41964049]; decide) (by rw [alen_41964049]; decide) (fun _ => by omega) ⟨rfl, ?_⟩
  obtain ⟨c1, c2, c3⟩ := cp_nm (h := gI σ 41964049 0) (y := 41 * j) (l := vL A 5 (j + 1)) n2 g2.1 g2.2
  have hM := wm_SHOST hM (s := j) (by omega) z2 n2.1 c1 c2 c3
  generalize rI σ 41964049 0 _ = σ at hM
  obtain ⟨-, -, -, -, -, -, -, g3⟩ := (rm_J hM).2 (j + 1) hj
  refine wp_cv ?_
  rw [rm_p43 hM]
  refine mc_copyRow aty_43012625 aty_43012625 (by rw [alen_43012625]; omega) (by rw [alen_43012625]; omega) (by rw [alen_43012625]; decide) (by rw [alen_43012625]; decide) (fun _ => by omega) ⟨rfl, ?_⟩
  obtain ⟨c1, c2, c3⟩ := cp_nm (h := gI σ 43012625 0) (y := 41 * j) (l := vL A 6 (j + 1)) n3 g3.1 g3.2
  have hM := wm_SREALM hM (s := j) (by omega) z3 n3.1 c1 c2 c3
  generalize rI σ 43012625 0 _ = σ at hM
  refine (wp_ar (rm_p44 hM) aty_44040720 alen_44040720 (show Int32.ofNat j + 1 = Int32.ofNat (j + 1) from io_add_l j 1) (by omega) (by decide) (wp_ar (rm_p44 hM) aty_44040720 alen_44040720 rfl (by omega) (by decide) ?_))
  simp only [io_add_l, io_nat hj31, io_nat hj32]
  rw [rm_SACC hM (s := j + 1) hj]
  refine wp_swM (wm_SACC hM j _) fun σ hM => (wp_ar (rm_p45 hM) aty_45089299 alen_45089299 rfl (by omega) (by decide) (wp_ar (rm_p45 hM) aty_45089299 alen_45089299 rfl (by omega) (by decide) ?_))
  simp only [io_add_l, io_nat hj31, io_nat hj32]
  rw [rm_SGRANT hM (s := j + 1) hj]
  refine wp_swM (wm_SGRANT hM j hg _) fun σ hM => (wp_ar (rm_p46 hM) aty_46137875 alen_46137875 rfl (by omega) (by decide) (wp_ar (rm_p46 hM) aty_46137875 alen_46137875 rfl (by omega) (by decide) ?_))
  simp only [io_add_l, io_nat hj31, io_nat hj32]
  rw [rm_SCOUNT hM (s := j + 1) hj]
  refine wp_swM (wm_SCOUNT hM j _) fun σ hM => (wp_ar (rm_p47 hM) aty_47186448 alen_47186448 rfl (by omega) (by decide) (wp_ar (rm_p47 hM) aty_47186448 alen_47186448 rfl (by omega) (by decide) ?_))
  simp only [io_add_l, io_nat hj31, io_nat hj32]
  rw [rm_SPEER hM (s := j + 1) hj]
  refine wp_swM (wm_SPEER hM j _) fun σ hM => (wp_ar (rm_p48 hM) aty_48235024 alen_48235024 rfl (by omega) (by decide) (wp_ar (rm_p48 hM) aty_48235024 alen_48235024 rfl (by omega) (by decide) ?_))
  simp only [io_add_l, io_nat hj31, io_nat hj32]
  rw [rm_SEND hM (s := j + 1) hj]
  exact wp_swM (wm_SEND hM j _) fun σ hM => k σ hM
theorem ml_forget {T : z_St} {A : w_A} {d s n : Nat} (hn : vN A 2 0 = n) (hl : n ≤ 16) (hs : z_SN A) (hg : ∀ r, r < 16 → ¬ vN A 16 0 = r + 1) {Q : z_St → Option z_V → Prop} (k : ∀ σ, w_M T σ (fn_remove A s) → Q σ none) : ∀ (m j : Nat) (σ : z_St), s ≤ j → j + m + 1 = n → w_M T σ (fn_shs A j s) →
    wp (E xP140 (zD (d + 1)) 1 [some (.inr (.inr (some (8, 0)))), none, some (.inl (Int32.ofNat j))] [] σ) Q
  | 0, j, σ, hsj, hj, hM => by
    have e40 : gI σ 8 40 0 = Int32.ofNat n := by rw [rm_SESS hM]; exact congrArg _ hn
    refine wp_eq (e140_1 ..) (wp_if (fun hc => ?_) (fun hc => ?_)) <;> rw [e40, io_add_l, io_le (by omega) (by omega)] at hc
    · refine wp_eq (e140_3 ..) ?_
      rw [e40, show (Int32.ofNat n - 1 : Int32) = Int32.ofNat (n - 1) from by rw [show (1 : Int32) = Int32.ofNat 1 from rfl, io_sub (by omega)]]
      refine wp_swM (wm_SESSd hM (show n - 1 ≤ vN A 2 0 by omega)) fun σ hM => wp_ret (k _ ?_)
      have e : sN (fn_shs A j s) 2 0 (n - 1) = tN (fn_remove A s) 17 (vN A 17) := by
        have ej : j = n - 1 := by omega
        subst ej
        unfold fn_shs fn_remove
        rw [hn]
        simp only [sh_out]
        refine A_ext (fun v i => ?_) (fun v i => ?_) (fun v i => ?_) (fun v i => ?_) rfl
        · simp only [ev_rd, ev_st, aEl, z_w, z_cat, Nat.reduceMod, Nat.reduceDiv, Nat.reduceLeDiff, Nat.reduceLT, Nat.reduceAdd, Nat.reduceMul, Nat.reduceSub, Nat.reduceEqDiff, Int32.reduceLT, Int32.reduceLE, Int32.reduceAdd, Int32.reduceSub, Int32.reduceMul, true_and, and_true, false_and, and_false, true_or, or_true, false_or, or_false, not_true_eq_false, not_false_eq_true, if_true, if_false, reduceIte, ne_eq, and_self, or_self, reduceCtorEq, Option.some.injEq, Prod.mk.injEq, vI_tI]
        · simp only [ev_rd, ev_st, aEl, z_w, z_cat, Nat.reduceMod, Nat.reduceDiv, Nat.reduceLeDiff, Nat.reduceLT, Nat.reduceAdd, Nat.reduceMul, Nat.reduceSub, Nat.reduceEqDiff, Int32.reduceLT, Int32.reduceLE, Int32.reduceAdd, Int32.reduceSub, Int32.reduceMul, true_and, and_true, false_and, and_false, true_or, or_true, false_or, or_false, not_true_eq_false, not_false_eq_true, if_true, if_false, reduceIte, ne_eq, and_self, or_self, reduceCtorEq, Option.some.injEq, Prod.mk.injEq, vJ_tJ]
        · simp only [ev_rd, ev_st, aEl, z_w, z_cat, Nat.reduceMod, Nat.reduceDiv, Nat.reduceLeDiff, Nat.reduceLT, Nat.reduceAdd, Nat.reduceMul, Nat.reduceSub, Nat.reduceEqDiff, Int32.reduceLT, Int32.reduceLE, Int32.reduceAdd, Int32.reduceSub, Int32.reduceMul, true_and, and_true, false_and, and_false, true_or, or_true, false_or, or_false, not_true_eq_false, not_false_eq_true, if_true, if_false, reduceIte, ne_eq, and_self, or_self, reduceCtorEq, Option.some.injEq, Prod.mk.injEq, vN_tN, vN_sN]
          by_cases h1 : v = 13
          · subst h1; simp only [ev_rd, ev_st, aEl, z_w, z_cat, Nat.reduceMod, Nat.reduceDiv, Nat.reduceLeDiff, Nat.reduceLT, Nat.reduceAdd, Nat.reduceMul, Nat.reduceSub, Nat.reduceEqDiff, Int32.reduceLT, Int32.reduceLE, Int32.reduceAdd, Int32.reduceSub, Int32.reduceMul, true_and, and_true, false_and, and_false, true_or, or_true, false_or, or_false, not_true_eq_false, not_false_eq_true, if_true, if_false, reduceIte, ne_eq, and_self, or_self, reduceCtorEq, Option.some.injEq, Prod.mk.injEq]
          · by_cases h2 : v = 17
            · subst h2; simp only [ev_rd, ev_st, aEl, z_w, z_cat, Nat.reduceMod, Nat.reduceDiv, Nat.reduceLeDiff, Nat.reduceLT, Nat.reduceAdd, Nat.reduceMul, Nat.reduceSub, Nat.reduceEqDiff, Int32.reduceLT, Int32.reduceLE, Int32.reduceAdd, Int32.reduceSub, Int32.reduceMul, true_and, and_true, false_and, and_false, true_or, or_true, false_or, or_false, not_true_eq_false, not_false_eq_true, if_true, if_false, reduceIte, ne_eq, and_self, or_self, reduceCtorEq, Option.some.injEq, Prod.mk.injEq]
            · simp only [h1, h2, ev_rd, ev_st, aEl, z_w, z_cat, Nat.reduceMod, Nat.reduceDiv, Nat.reduceLeDiff, Nat.reduceLT, Nat.reduceAdd, Nat.reduceMul, Nat.reduceSub, Nat.reduceEqDiff, Int32.reduceLT, Int32.reduceLE, Int32.reduceAdd, Int32.reduceSub, Int32.reduceMul, true_and, and_true, false_and, and_false, true_or, or_true, false_or, or_false, not_true_eq_false, not_false_eq_true, if_true, if_false, reduceIte, ne_eq, and_self, or_self, reduceCtorEq, Option.some.injEq, Prod.mk.injEq]
        · simp only [ev_rd, ev_st, aEl, z_w, z_cat, Nat.reduceMod, Nat.reduceDiv, Nat.reduceLeDiff, Nat.reduceLT, Nat.reduceAdd, Nat.reduceMul, Nat.reduceSub, Nat.reduceEqDiff, Int32.reduceLT, Int32.reduceLE, Int32.reduceAdd, Int32.reduceSub, Int32.reduceMul, true_and, and_true, false_and, and_false, true_or, or_true, false_or, or_false, not_true_eq_false, not_false_eq_true, if_true, if_false, reduceIte, ne_eq, and_self, or_self, reduceCtorEq, Option.some.injEq, Prod.mk.injEq, vL_tL]
      rw [e] at hM
      exact hM
    · omega
  | m + 1, j, σ, hsj, hj, hM => by
    have e40 : gI σ 8 40 0 = Int32.ofNat n := by rw [rm_SESS hM]; exact congrArg _ hn
    refine wp_eq (e140_1 ..) (wp_if (fun hc => ?_) (fun hc => ?_)) <;> rw [e40, io_add_l, io_le (by omega) (by omega)] at hc
    · omega
    · have hj' : j + 1 < vN (fn_shs A j s) 2 0 := by show j + 1 < vN A 2 0; omega
      have hl' : vN (fn_shs A j s) 2 0 ≤ 16 := by show vN A 2 0 ≤ 16; omega
      refine ml_mv hM hj' hl' (shs_SN hs (by omega)) hg fun σ hM => ?_
      rw [mv_shs hsj] at hM
      exact ml_forget hn hl hs hg k m (j + 1) σ (by omega) (by omega) hM
theorem mc_forget {T σ : z_St} {A : w_A} (hM : w_M T σ A) {d s : Nat} (hs : s < vN A 2 0) (hl : vN A 2 0 ≤ 16) (hn : z_SN A) (hg : ∀ r, r < 16 → ¬ vN A 16 0 = r + 1) {Q : z_St → Option z_V → Prop} (k : ∀ σ, w_M T σ (fn_remove A s) → Q σ none) : wp (zD (d + 2) 140 [.inr (.inr (some (8, 0))), .inl (Int32.ofNat s)] σ) Q := by
  refine wp_eq (c140 ..) (wp_eq (e140_0 ..) (ml_forget rfl hl hn hg k (vN A 2 0 - 1 - s) s σ (by omega) (by omega) ?_))
  rw [shs_0]
  exact hM
