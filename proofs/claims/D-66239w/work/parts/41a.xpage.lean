/-! PART 41 (src 41.xpage.src): the component's page: what goes is made -/
set_option maxHeartbeats 100000
theorem fn_page_page (A : w_A) (l m : List Int32) : fn_page (fn_page A l) m = fn_page A m := sL_sL _ _ _ _ _
theorem fn_page_self (A : w_A) : fn_page A (vL A 12 0) = A := sL_id A rfl
theorem fn_page_PG (A : w_A) (l : List Int32) : vL (fn_page A l) 12 0 = l := rfl
theorem x_PG1 {T σ : z_St} {A : w_A} {l : List Int32} (h : w_X T σ (fn_page A l)) (b : Int32) : w_X T (wI (wI σ 2 1 0 (Int32.ofNat (l.length + 1))) 79714193 0 l.length b) (fn_page A (l ++ [b])) := by
  obtain ⟨hT, hA, hB, hC, hD, hE, hF, hG, hH, hI, hJ, hK, hL, hM, hN⟩ := h
  refine ⟨x_T_wI (x_T_wI hT (z_isM_dec _ rfl)) (z_isM_dec _ rfl), hA, hB, hC, hD, hE, hF, hG, hH, hI, hJ, hK, ?_, hM, hN⟩
  unfold x_L at hL ⊢
  simp only [fn_page_PG, gI_wI, ev_rd, ev_st, aEl, z_w, z_cat, Nat.reduceMod, Nat.reduceDiv, Nat.reduceLeDiff, Nat.reduceLT, Nat.reduceAdd, Nat.reduceMul, Nat.reduceSub, Nat.reduceEqDiff, Int32.reduceLT, Int32.reduceLE, Int32.reduceAdd, Int32.reduceSub, Int32.reduceMul, true_and, and_true, false_and, and_false, true_or, or_true, false_or, or_false, not_true_eq_false, not_false_eq_true, if_true, if_false, reduceIte, ne_eq, and_self, or_self, reduceCtorEq, Option.some.injEq, Prod.mk.injEq] at hL ⊢
  refine ⟨by rw [List.length_append]; rfl, fun k hk hne => ?_⟩
  by_cases e : k = l.length
  · subst e
    rw [if_pos rfl, List.getElem_append_right (Nat.le_refl _)]
    simp
  · rw [List.length_append] at hk
    have hk2 : k < l.length := by
      have : [b].length = 1 := rfl
      omega
    rw [if_neg e, hL.2 k hk2 hne, List.getElem_append_left hk2]
/-- no more than its first octets' places differ -/
theorem x_PGe {T σ : z_St} {A : w_A} {l m : List Int32} (h : w_X T σ (fn_page A l)) (e : l.length = m.length) (g : ∀ k, (h1 : k < l.length) → (h2 : k < m.length) → ¬ (1 ≤ k ∧ k ≤ 3) → l[k] = m[k]) : w_X T σ (fn_page A m) := by
  obtain ⟨hT, hA, hB, hC, hD, hE, hF, hG, hH, hI, hJ, hK, hL, hM, hN⟩ := h
  refine ⟨hT, hA, hB, hC, hD, hE, hF, hG, hH, hI, hJ, hK, ?_, hM, hN⟩
  unfold x_L at hL ⊢
  rw [fn_page_PG] at hL ⊢
  refine ⟨by rw [← e]; exact hL.1, fun k hk hne => ?_⟩
  rw [hL.2 k (by omega) hne, g k (by omega) hk hne]
/-- one cell written anew -/
theorem x_PGs {T σ : z_St} {A : w_A} {l : List Int32} (h : w_X T σ (fn_page A l)) (k : Nat) (b : Int32) : w_X T (wI σ 79714193 0 k b) (fn_page A (l.set k b)) := by
  obtain ⟨hT, hA, hB, hC, hD, hE, hF, hG, hH, hI, hJ, hK, hL, hM, hN⟩ := h
  refine ⟨x_T_wI hT (z_isM_dec _ rfl), hA, hB, hC, hD, hE, hF, hG, hH, hI, hJ, hK, ?_, hM, hN⟩
  unfold x_L at hL ⊢
  simp only [fn_page_PG, gI_wI, ev_rd, ev_st, aEl, z_w, z_cat, Nat.reduceMod, Nat.reduceDiv, Nat.reduceLeDiff, Nat.reduceLT, Nat.reduceAdd, Nat.reduceMul, Nat.reduceSub, Nat.reduceEqDiff, Int32.reduceLT, Int32.reduceLE, Int32.reduceAdd, Int32.reduceSub, Int32.reduceMul, true_and, and_true, false_and, and_false, true_or, or_true, false_or, or_false, not_true_eq_false, not_false_eq_true, if_true, if_false, reduceIte, ne_eq, and_self, or_self, reduceCtorEq, Option.some.injEq, Prod.mk.injEq] at hL ⊢
  refine ⟨by rw [List.length_set]; exact hL.1, fun j hj hne => ?_⟩
  rw [List.length_set] at hj
  by_cases e : j = k
  · subst e
    rw [if_pos rfl, List.getElem_set_self]
  · rw [if_neg e, hL.2 j hj hne, List.getElem_set_ne (fun e2 => e e2.symm)]
theorem x_PG0 {T σ : z_St} {A : w_A} (h : w_X T σ A) : w_X T (wI σ 2 1 0 0) (fn_page A []) := by
  obtain ⟨hT, hA, hB, hC, hD, hE, hF, hG, hH, hI, hJ, hK, hL, hM, hN⟩ := h
  refine ⟨x_T_wI hT (z_isM_dec _ rfl), hA, hB, hC, hD, hE, hF, hG, hH, hI, hJ, hK, ?_, hM, hN⟩
  unfold x_L at hL ⊢
  refine ⟨rfl, fun k hk hne => ?_⟩
  cases hk
theorem rx_PG {T σ : z_St} {A : w_A} {l : List Int32} (h : w_X T σ (fn_page A l)) : gI σ 2 1 0 = Int32.ofNat l.length := h.2.2.2.2.2.2.2.2.2.2.2.2.1.1
theorem xl_put {T : z_St} {A : w_A} {d : Nat} {v : Int64} {Q : z_St → Option z_V → Prop} : ∀ (n : Nat) (σ : z_St) (l : List Int32), w_X T σ (fn_page A l) → l.length + n ≤ 700 → n ≤ 8 → (∀ σ, w_X T σ (fn_page A (l ++ bJ v n)) → Q σ none) →
    wp (E xP217 (zD d) 1 [some (.inr (.inr (some (2, 0)))), some (.inr (.inl v)), none, none, some (.inl (Int32.ofNat n + (-1)))] [] σ) Q
  | 0, σ, l, hX, hl, hn, k => by
    refine wp_eq (e217_1 ..) ?_
    rw [if_pos (by decide)]
    refine wp_eq (e217_3 ..) (wp_ret (k _ ?_))
    rw [bJ, List.append_nil]
    exact hX
  | n + 1, σ, l, hX, hl, hn, k => by
    refine wp_eq (e217_1 ..) ?_
    have e : Int32.ofNat (n + 1) + (-1) = Int32.ofNat n := io_pred (by omega)
    rw [e, if_neg (by rw [show (0 : Int32) = Int32.ofNat 0 from rfl, io_lt (by omega) (by omega)]; omega)]
    refine wp_eq (e217_2 ..) ?_
    simp (disch := omega) only [fx hX, rx_PG hX, io_nat, io_add_l, ev_ev, ev_st, aEl, z_w, z_cat, Nat.reduceMod, Nat.reduceDiv, Nat.reduceLeDiff, Nat.reduceLT, Nat.reduceAdd, Nat.reduceMul, Nat.reduceSub, Nat.reduceEqDiff, Int32.reduceLT, Int32.reduceLE, Int32.reduceAdd, Int32.reduceSub, Int32.reduceMul, true_and, and_true, false_and, and_false, true_or, or_true, false_or, or_false, not_true_eq_false, not_false_eq_true, if_true, if_false, reduceIte, ne_eq, and_self, or_self, reduceCtorEq, Option.some.injEq, Prod.mk.injEq, sw, Int8.toInt8_toInt32]
    refine xl_put n _ (l ++ [byJ v (Int32.ofNat n)]) (x_PG1 hX (byJ v (Int32.ofNat n))) (by rw [List.length_append]; show l.length + 1 + n ≤ 700; omega) (by omega) ?_
    rw [List.append_assoc]
    exact k
theorem xc_put {T σ : z_St} {A : w_A} {l : List Int32} (hX : w_X T σ (fn_page A l)) {d : Nat} {v : Int64} (n : Nat) {x : Int32} (hx : x = Int32.ofNat n) (hl : l.length + n ≤ 700) (hn : n ≤ 8) {Q : z_St → Option z_V → Prop} (k : ∀ σ, w_X T σ (fn_page A (l ++ bJ v n)) → Q σ none) : wp (zD (d + 1) 217 [.inr (.inr (some (2, 0))), .inr (.inl v), .inl x] σ) Q := by
  subst hx
  refine wp_eq (c217 ..) (wp_eq (e217_0 ..) ?_)
  rw [show Int32.ofNat n - 1 = Int32.ofNat n + (-1) from Int32.sub_eq_add_neg _ _]
  exact xl_put n σ l hX hl hn k
