/-! PART 37 (src 37.var.src): writes at the values that the code has -/
theorem wx_OWN0 {T σ : z_St} {A : w_A} (h : w_X T σ A) (i : Nat) : w_X T (wR σ 9 5 i none) (sN A 9 i 0) := wx_OWN h i 0
theorem wx_CAME0 {T σ : z_St} {A : w_A} (h : w_X T σ A) (i : Nat) : w_X T (wR σ 9 6 i none) (sN A 10 i 0) := wx_CAME h i 0
theorem wx_CPEER0 {T σ : z_St} {A : w_A} (h : w_X T σ A) (i : Nat) : w_X T (wR σ 4 2 i none) (sN A 11 i 0) := wx_CPEER h i 0
theorem wx_OWNs {T σ : z_St} {A : w_A} (h : w_X T σ A) (i : Nat) {c : Nat} (hc : ¬ c = 0) : w_X T (wR σ 9 5 i (some (4, c))) (sN A 9 i c) := by rw [← z_one_s hc]; exact wx_OWN h i c
theorem wx_CAMEs {T σ : z_St} {A : w_A} (h : w_X T σ A) (i : Nat) {c : Nat} (hc : ¬ c = 0) : w_X T (wR σ 9 6 i (some (4, c))) (sN A 10 i c) := by rw [← z_one_s hc]; exact wx_CAME h i c
theorem wx_CPEERs {T σ : z_St} {A : w_A} (h : w_X T σ A) (i : Nat) (p : Nat) : w_X T (wR σ 4 2 i (some (9, p))) (sN A 11 i (p + 1)) := wx_CPEER h i (p + 1)
theorem wx_QPEERs {T σ : z_St} {A : w_A} (h : w_X T σ A) (i : Nat) (p : Nat) : w_X T (wR σ 6 4 i (some (9, p))) (sN A 12 i (p + 1)) := wx_QPEER h i (p + 1)
theorem wx_CROLE1 {T σ : z_St} {A : w_A} (h : w_X T σ A) (i : Nat) : w_X T (wI σ 4 3 i 1) (sI A 13 i 1) := wx_CROLE h i 1
theorem wx_CROLE0 {T σ : z_St} {A : w_A} (h : w_X T σ A) (i : Nat) : w_X T (wI σ 4 3 i 0) (sI A 13 i 0) := wx_CROLE h i 0
theorem wx_INL0 {T σ : z_St} {A : w_A} (h : w_X T σ A) (i : Nat) : w_X T (wI σ 4 5 i 0) (sN A 14 i 0) := wx_INL h i 0
theorem x_ghost {T σ : z_St} {A : w_A} (h : w_X T σ A) (i x : Nat) : w_X T σ (sN A 19 i x) := h
/-- a connection's role, where its flag stays -/
theorem x_role2 {T σ : z_St} {A : w_A} (h : w_X T σ A) {i : Nat} (hi : ¬ vI A 13 i = 1) : w_X T σ (sI A 13 i 2) := by
  have hr := rx_CROLE h
  obtain ⟨hT, hA, hB, hC, hD, hE, hF, hG, hH, hI, hJ, hK, hL, hM, hN⟩ := h
  refine ⟨hT, hA, hB, hC, hD, ⟨hE.1, hE.2.1, hE.2.2.1, hE.2.2.2.1, fun j => ?_⟩, hF, hG, hH, hI, hJ, hK, hL, hM, hN⟩
  rw [hr j]
  by_cases e : j = i
  · subst e
    rw [b2i_f hi, b2i_f]
    rw [vI_sI, if_pos ⟨rfl, rfl⟩]
    decide
  · rw [vI_sI, if_neg (fun e2 => e e2.2)]
theorem x_Q0 {T σ : z_St} {A : w_A} (h : w_X T σ A) (c : Nat) : w_X T (wI (wI σ 4 7 c 0) 4 8 c 0) (sL A 3 c []) := by
  obtain ⟨hT, hA, hB, hC, hD, hE, hF, hG, hH, hI, hJ, hK, hL, hM, hN⟩ := h
  refine ⟨x_T_wI (x_T_wI hT (z_isM_dec _ rfl)) (z_isM_dec _ rfl), hA, hB, hC, hD, hE, hF, hG, ?_, hI, hJ, hK, hL, hM, hN⟩
  intro e he1 he
  obtain ⟨g1, g2, f2, g3, g4, g5⟩ := hH e he1 he
  by_cases hec : e = c
  · subst hec
    simp only [vL_sL, gI_wI, ev_rd, ev_st, aEl, z_w, z_cat, Nat.reduceMod, Nat.reduceDiv, Nat.reduceLeDiff, Nat.reduceLT, Nat.reduceAdd, Nat.reduceMul, Nat.reduceSub, Nat.reduceEqDiff, Int32.reduceLT, Int32.reduceLE, Int32.reduceAdd, Int32.reduceSub, Int32.reduceMul, true_and, and_true, false_and, and_false, true_or, or_true, false_or, or_false, not_true_eq_false, not_false_eq_true, if_true, if_false, reduceIte, ne_eq, and_self, or_self, reduceCtorEq, Option.some.injEq, Prod.mk.injEq]
    exact ⟨Nat.zero_le _, rfl, 0, by omega, rfl, fun k hk => by cases hk⟩
  · simp only [vL_sL, gI_wI, ev_rd, ev_st, aEl, z_w, z_cat, Nat.reduceMod, Nat.reduceDiv, Nat.reduceLeDiff, Nat.reduceLT, Nat.reduceAdd, Nat.reduceMul, Nat.reduceSub, Nat.reduceEqDiff, Int32.reduceLT, Int32.reduceLE, Int32.reduceAdd, Int32.reduceSub, Int32.reduceMul, true_and, and_true, false_and, and_false, true_or, or_true, false_or, or_false, not_true_eq_false, not_false_eq_true, if_true, if_false, reduceIte, ne_eq, and_self, or_self, reduceCtorEq, Option.some.injEq, Prod.mk.injEq, hec]
    exact ⟨g1, g2, f2, g3, g4, g5⟩
theorem m_Q0 {T σ : z_St} {A : w_A} (h : w_M T σ A) (c : Nat) : w_M T (wI (wI σ 34603312 0 c 0) 35651888 0 c 0) (sL A 3 c []) := by
  obtain ⟨hT, hA, hB, hC, hD, hG, hH, hI, hJ, hK, hL, hM, hN⟩ := h
  refine ⟨m_T_wI (m_T_wI hT (z_isM_yes _ rfl)) (z_isM_yes _ rfl), hA, hB, hC, hD, hG, ?_, hI, hJ, hK, hL, hM, hN⟩
  intro e he1 he
  obtain ⟨g1, g2, f2, g3, g4, g5⟩ := hH e he1 he
  by_cases hec : e = c
  · subst hec
    simp only [vL_sL, gI_wI, ev_rd, ev_st, aEl, z_w, z_cat, Nat.reduceMod, Nat.reduceDiv, Nat.reduceLeDiff, Nat.reduceLT, Nat.reduceAdd, Nat.reduceMul, Nat.reduceSub, Nat.reduceEqDiff, Int32.reduceLT, Int32.reduceLE, Int32.reduceAdd, Int32.reduceSub, Int32.reduceMul, true_and, and_true, false_and, and_false, true_or, or_true, false_or, or_false, not_true_eq_false, not_false_eq_true, if_true, if_false, reduceIte, ne_eq, and_self, or_self, reduceCtorEq, Option.some.injEq, Prod.mk.injEq]
    exact ⟨Nat.zero_le _, rfl, 0, by omega, rfl, fun k hk => by cases hk⟩
  · simp only [vL_sL, gI_wI, ev_rd, ev_st, aEl, z_w, z_cat, Nat.reduceMod, Nat.reduceDiv, Nat.reduceLeDiff, Nat.reduceLT, Nat.reduceAdd, Nat.reduceMul, Nat.reduceSub, Nat.reduceEqDiff, Int32.reduceLT, Int32.reduceLE, Int32.reduceAdd, Int32.reduceSub, Int32.reduceMul, true_and, and_true, false_and, and_false, true_or, or_true, false_or, or_false, not_true_eq_false, not_false_eq_true, if_true, if_false, reduceIte, ne_eq, and_self, or_self, reduceCtorEq, Option.some.injEq, Prod.mk.injEq, hec]
    exact ⟨g1, g2, f2, g3, g4, g5⟩
theorem wm_OWN0 {T σ : z_St} {A : w_A} (h : w_M T σ A) (i : Nat) : w_M T (wI σ 14680208 0 i 0) (sN A 9 i 0) := wm_OWN h i 0
theorem wm_CAME0 {T σ : z_St} {A : w_A} (h : w_M T σ A) (i : Nat) : w_M T (wI σ 15728784 0 i 0) (sN A 10 i 0) := wm_CAME h i 0
theorem wm_CPEER0 {T σ : z_St} {A : w_A} (h : w_M T σ A) (i : Nat) : w_M T (wI σ 29360432 0 i 0) (sN A 11 i 0) := wm_CPEER h i 0
theorem wm_INL0 {T σ : z_St} {A : w_A} (h : w_M T σ A) (i : Nat) : w_M T (wI σ 32506160 0 i 0) (sN A 14 i 0) := wm_INL h i 0
theorem wm_QPEERp {T σ : z_St} {A : w_A} (h : w_M T σ A) (i p : Nat) : w_M T (wI σ 53479440 0 i (Int32.ofNat p)) (sN A 12 i (p + 1)) := wm_QPEER h i (p + 1)
