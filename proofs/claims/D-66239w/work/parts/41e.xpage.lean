/-! PART 41 (src 41.xpage.src): the component's page: what goes is made -/
set_option maxHeartbeats 100000
theorem x_T_rI {T σ : z_St} {a b : Nat} {r : Nat → Int32} (h : x_T T σ) (ha : ¬ (z_isM a ∨ a = 14)) : x_T T (rI σ a b r) := by
  refine ⟨fun c hc => ?_, h.2⟩
  have e : c ≠ a := fun e => ha (e ▸ hc)
  obtain ⟨h1, h2, h3⟩ := h.1 c hc
  refine ⟨?_, h2, h3⟩
  rw [← h1]; funext d m; simp only [hI_rI, e, false_and, if_false]
/-- octets copied behind what is there -/
theorem x_PGc {T σ : z_St} {A : w_A} {l : List Int32} (h : w_X T σ (fn_page A l)) {f : Nat → Int32} {sp : Nat} (m : List Int32) (hf : ∀ j, (hj : j < m.length) → f (sp + j) = m[j]) : w_X T (wI (rI σ 79714193 0 (va_cpy f (gI σ 79714193 0) sp l.length m.length)) 2 1 0 (Int32.ofNat (l.length + m.length))) (fn_page A (l ++ m)) := by
  obtain ⟨hT, hA, hB, hC, hD, hE, hF, hG, hH, hI, hJ, hK, hL, hM, hN⟩ := h
  refine ⟨x_T_wI (x_T_rI hT (z_isM_dec _ rfl)) (z_isM_dec _ rfl), hA, hB, hC, hD, hE, hF, hG, hH, hI, hJ, hK, ?_, hM, hN⟩
  unfold x_L at hL ⊢
  simp only [fn_page_PG, gI_wI, hI_rI, ev_rd, ev_st, aEl, z_w, z_cat, Nat.reduceMod, Nat.reduceDiv, Nat.reduceLeDiff, Nat.reduceLT, Nat.reduceAdd, Nat.reduceMul, Nat.reduceSub, Nat.reduceEqDiff, Int32.reduceLT, Int32.reduceLE, Int32.reduceAdd, Int32.reduceSub, Int32.reduceMul, true_and, and_true, false_and, and_false, true_or, or_true, false_or, or_false, not_true_eq_false, not_false_eq_true, if_true, if_false, reduceIte, ne_eq, and_self, or_self, reduceCtorEq, Option.some.injEq, Prod.mk.injEq] at hL ⊢
  refine ⟨by rw [List.length_append], fun k hk hne => ?_⟩
  rw [List.length_append] at hk
  unfold va_cpy
  by_cases e : k < l.length
  · rw [if_neg (by omega), hL.2 k e hne, List.getElem_append_left e]
  · rw [if_pos (by omega), hf (k - l.length) (by omega), List.getElem_append_right (by omega)]
