/-! PART 44 (src 44.msend.src): the twin's octets go -/
theorem by8_2z (n : Nat) (h : n < 701) : by8 (Int32.ofNat n) 2 = 0 := by
  have : ∀ n, n < 701 → by8 (Int32.ofNat n) 2 = 0 := by decide +kernel
  exact this n h
theorem m_Q1 {T σ : z_St} {A : w_A} (h : w_M T σ A) {c : Nat} (hc1 : 1 ≤ c) (hc : c ≤ 8) {f : Nat} (hf : f < 2000) (h7 : gI σ 35651888 0 c = Int32.ofNat f) (b : Int32) (hm : (vL A 3 c).length < 2000) :
    w_M T (wI (wI σ 34130449 0 (2000 * c + (f + (vL A 3 c).length) % 2000) b) 34603312 0 c (Int32.ofNat ((vL A 3 c).length + 1))) (sL A 3 c (vL A 3 c ++ [b])) := by
  obtain ⟨hT, hA, hB, hC, hD, hG, hH, hI, hJ, hK, hL, hM, hN⟩ := h
  refine ⟨m_T_wI (m_T_wI hT (z_isM_yes _ rfl)) (z_isM_yes _ rfl), hA, hB, hC, hD, hG, ?_, hI, hJ, hK, hL, hM, hN⟩
  intro e he1 he
  obtain ⟨g1, g2, f2, g3, g4, g5⟩ := hH e he1 he
  simp only [vL_sL, gI_wI, ev_rd, ev_st, aEl, z_w, z_cat, Nat.reduceMod, Nat.reduceDiv, Nat.reduceLeDiff, Nat.reduceLT, Nat.reduceAdd, Nat.reduceMul, Nat.reduceSub, Nat.reduceEqDiff, Int32.reduceLT, Int32.reduceLE, Int32.reduceAdd, Int32.reduceSub, Int32.reduceMul, true_and, and_true, false_and, and_false, true_or, or_true, false_or, or_false, not_true_eq_false, not_false_eq_true, if_true, if_false, reduceIte, ne_eq, and_self, or_self, reduceCtorEq, Option.some.injEq, Prod.mk.injEq]
  by_cases hec : e = c
  · subst hec
    have hff : f2 = f := by
      have g6 : Int32.ofNat f2 = Int32.ofNat f := g4.symm.trans h7
      rwa [io_inj (by omega) (by omega)] at g6
    subst hff
    simp only [if_true]
    have e1 : [b].length = 1 := rfl
    refine ⟨by rw [List.length_append]; omega, by rw [List.length_append]; rfl, f2, hf, h7, fun k hk => ?_⟩
    rw [List.length_append] at hk
    by_cases e1 : k < (vL A 3 e).length
    · rw [if_neg (by omega), List.getElem_append_left e1]
      exact g5 k e1
    · have e2 : k = (vL A 3 e).length := by omega
      subst e2
      rw [if_pos rfl, List.getElem_append_right (Nat.le_refl _)]
      simp
  · simp only [hec, if_false]
    refine ⟨g1, g2, f2, g3, g4, fun k hk => ?_⟩
    rw [if_neg (by omega), g5 k hk]
theorem sL_same (A : w_A) (v i : Nat) : sL A v i (vL A v i) = A := sL_id A rfl
theorem ml_go {T : z_St} {A : w_A} {d c f : Nat} {m : List Int32} (hc1 : 1 ≤ c) (hc : c ≤ 8) (hf : f < 2000) (hn : (vL A 3 c).length + m.length ≤ 2000) (hb : z_by m) (hm : m.length = (vL A 12 0).length) (hm7 : m.length ≤ 700) {Q : z_St → Option z_V → Prop} (k : ∀ σ, w_M T σ (sL A 3 c (vL A 3 c ++ m)) → Q σ none) : ∀ (r j : Nat) (σ : z_St), j + r = m.length → w_M T σ (sL A 3 c (vL A 3 c ++ m.take j)) → gI σ 35651888 0 c = Int32.ofNat f →
    (∀ i, (h : i < m.length) → gI σ 63985553 0 i = m[i]) →
    wp (E xP99 (zD d) 3 [some (.inr (.inr (some (8, 0)))), some (.inl (Int32.ofNat c)), some (.inl (Int32.ofNat j))] [] σ) Q
  | 0, j, σ, hj, hM, h7, hP => by
    refine wp_eq (e99_3 ..) ?_
    have hp : gI σ 8 66 0 = Int32.ofNat m.length := by rw [hm]; exact hM.2.2.2.2.2.2.2.2.2.2.1.1
    rw [hp, if_pos (by rw [io_le (by omega) (by omega)]; omega)]
    refine wp_eq (e99_5 ..) (wp_ret (k _ ?_))
    rw [List.take_of_length_le (by omega)] at hM
    exact hM
  | r + 1, j, σ, hj, hM, h7, hP => by
    refine wp_eq (e99_3 ..) ?_
    have hp : gI σ 8 66 0 = Int32.ofNat m.length := by rw [hm]; exact hM.2.2.2.2.2.2.2.2.2.2.1.1
    rw [hp, if_neg (by rw [io_le (by omega) (by omega)]; omega)]
    refine wp_eq (e99_4 ..) ?_
    have hlen : (vL (sL A 3 c (vL A 3 c ++ m.take j)) 3 c).length = (vL A 3 c).length + j := by
      simp only [vL_sL, ev_rd, ev_st, aEl, z_w, z_cat, Nat.reduceMod, Nat.reduceDiv, Nat.reduceLeDiff, Nat.reduceLT, Nat.reduceAdd, Nat.reduceMul, Nat.reduceSub, Nat.reduceEqDiff, Int32.reduceLT, Int32.reduceLE, Int32.reduceAdd, Int32.reduceSub, Int32.reduceMul, true_and, and_true, false_and, and_false, true_or, or_true, false_or, or_false, not_true_eq_false, not_false_eq_true, if_true, if_false, reduceIte, ne_eq, and_self, or_self, reduceCtorEq, Option.some.injEq, Prod.mk.injEq]
      rw [List.length_append, List.length_take]
      omega
    have h8 : gI σ 34603312 0 c = Int32.ofNat ((vL A 3 c).length + j) := by rw [← hlen]; exact (hM.2.2.2.2.2.2.1 c hc1 hc).2.1
    simp (disch := omega) only [fm hM, h7, h8, hP j (by omega), gI_wI, ev_io, ev_ev, ev_st, aEl, z_w, z_cat, Nat.reduceMod, Nat.reduceDiv, Nat.reduceLeDiff, Nat.reduceLT, Nat.reduceAdd, Nat.reduceMul, Nat.reduceSub, Nat.reduceEqDiff, Int32.reduceLT, Int32.reduceLE, Int32.reduceAdd, Int32.reduceSub, Int32.reduceMul, true_and, and_true, false_and, and_false, true_or, or_true, false_or, or_false, not_true_eq_false, not_false_eq_true, if_true, if_false, reduceIte, ne_eq, and_self, or_self, reduceCtorEq, Option.some.injEq, Prod.mk.injEq, sw, nb_un, hb _ (List.getElem_mem (show j < m.length by omega))]
    have hX := m_Q1 hM hc1 hc hf h7 m[j] (by rw [hlen]; omega)
    rw [hlen] at hX
    refine ml_go hc1 hc hf hn hb hm hm7 k r (j + 1) _ (by omega) ?_ h7 (fun i hi => hP i hi)
    have e : sL (sL A 3 c (vL A 3 c ++ m.take j)) 3 c (vL (sL A 3 c (vL A 3 c ++ m.take j)) 3 c ++ [m[j]]) = sL A 3 c (vL A 3 c ++ m.take (j + 1)) := by
      rw [sL_sL]
      congr 1
      simp only [vL_sL, ev_rd, ev_st, aEl, z_w, z_cat, Nat.reduceMod, Nat.reduceDiv, Nat.reduceLeDiff, Nat.reduceLT, Nat.reduceAdd, Nat.reduceMul, Nat.reduceSub, Nat.reduceEqDiff, Int32.reduceLT, Int32.reduceLE, Int32.reduceAdd, Int32.reduceSub, Int32.reduceMul, true_and, and_true, false_and, and_false, true_or, or_true, false_or, or_false, not_true_eq_false, not_false_eq_true, if_true, if_false, reduceIte, ne_eq, and_self, or_self, reduceCtorEq, Option.some.injEq, Prod.mk.injEq]
      rw [List.append_assoc, List.take_succ_eq_append_getElem (by omega)]
    rw [← e]
    exact hX
theorem mc_go {T σ : z_St} {A : w_A} (hM : w_M T σ A) {d c : Nat} (hc1 : 1 ≤ c) (hc : c ≤ 8) (h4 : 4 ≤ (vL A 12 0).length) (hl : (vL A 12 0).length ≤ 700) (hb : z_by (vL A 12 0)) {Q : z_St → Option z_V → Prop} (k : ∀ σ, w_M T σ (fn_send A c) → Q σ none) : wp (zD (d + 1) 99 [.inr (.inr (some (8, 0))), .inl (Int32.ofNat c)] σ) Q := by
  rw [← fn_page_self A] at hM
  refine wp_eq (c99 ..) (wp_eq (e99_0 ..) ?_)
  have hp := rm_PG hM
  have hfl := fn_fix_len h4
  have hc2 := hM.2.2.2.2.2.2.2.2.2.2.1.2
  rw [fn_page_PG] at hc2
  have hm : ∀ σ (j : Nat) b, 1 ≤ j → j ≤ 3 → w_M T σ (fn_page A (vL A 12 0)) → w_M T (wI σ 63985553 0 j b) (fn_page A (vL A 12 0)) := fun σ j b h1 h2 h => m_PGe (m_PGs h j b) List.length_set (fun k h3 h4 hne => by rw [List.getElem_set_ne (by intro e; exact hne (by omega))])
  have hM2 := hm _ 3 (by8 (Int32.ofNat (vL A 12 0).length) 0) (by omega) (by omega) (hm _ 2 (by8 (Int32.ofNat (vL A 12 0).length) 1) (by omega) (by omega) (hm _ 1 0 (by omega) (by omega) hM))
  have g0 : gI σ 34603312 0 c = Int32.ofNat (vL A 3 c).length := ((rm_H hM) c hc1 hc).2.1
  have g00 : (vL A 3 c).length ≤ 2000 := ((rm_H hM) c hc1 hc).1
  simp (disch := omega) only [fm hM, hp, g0, gI_wI, ev_io, ev_ev, ev_st, aEl, z_w, z_cat, Nat.reduceMod, Nat.reduceDiv, Nat.reduceLeDiff, Nat.reduceLT, Nat.reduceAdd, Nat.reduceMul, Nat.reduceSub, Nat.reduceEqDiff, Int32.reduceLT, Int32.reduceLE, Int32.reduceAdd, Int32.reduceSub, Int32.reduceMul, true_and, and_true, false_and, and_false, true_or, or_true, false_or, or_false, not_true_eq_false, not_false_eq_true, if_true, if_false, reduceIte, ne_eq, and_self, or_self, reduceCtorEq, Option.some.injEq, Prod.mk.injEq, sw, Int8.toInt8_toInt32]
  rw [show (Int32.toInt8 0).toInt32 = 0 from rfl, show (Int32.toInt8 (Int32.ofNat (vL A 12 0).length >>> (8 &&& 31))).toInt32 = by8 (Int32.ofNat (vL A 12 0).length) 1 from rfl, nb_un, ← by8_0]
  revert hM2
  have hP : ∀ j, (h : j < (fn_fix (vL A 12 0)).length) → gI (wI (wI (wI σ 63985553 0 1 0) 63985553 0 2 (by8 (Int32.ofNat (vL A 12 0).length) 1)) 63985553 0 3 (by8 (Int32.ofNat (vL A 12 0).length) 0)) 63985553 0 j = (fn_fix (vL A 12 0))[j] := by
    intro j hj
    rw [fn_fix_get h4]
    rw [hfl] at hj
    simp only [gI_wI, true_and]
    by_cases e1 : j = 1
    · subst e1
      exact (by8_2z _ (by omega)).symm
    by_cases e2 : j = 2
    · subst e2; simp
    by_cases e3 : j = 3
    · subst e3; simp
    simp only [e1, e2, e3, if_false]
    exact hc2 j hj (by omega)
  revert hP
  generalize wI (wI (wI σ 63985553 0 1 0) 63985553 0 2 (by8 (Int32.ofNat (vL A 12 0).length) 1)) 63985553 0 3 (by8 (Int32.ofNat (vL A 12 0).length) 0) = σ2
  intro hP hM
  rw [fn_page_self A] at hM
  obtain ⟨g1, g2, f, g3, g4, g5⟩ := hM.2.2.2.2.2.2.1 c hc1 hc
  by_cases hr : (vL A 3 c).length + (vL A 12 0).length ≤ 2000
  · rw [if_pos hr]
    refine wp_eq (e99_2 ..) ?_
    refine ml_go (T := T) (m := fn_fix (vL A 12 0)) hc1 hc g3 (by rw [hfl]; exact hr) (fn_fix_by hb) hfl (by rw [hfl]; exact hl) (fun σ hM => k σ ?_) (fn_fix (vL A 12 0)).length 0 σ2 (by omega) ?_ g4 hP
    · unfold fn_send
      rw [if_pos hr]
      exact hM
    · rw [List.take_zero, List.append_nil, sL_same]
      exact hM
  · rw [if_neg hr]
    refine wp_eq (e99_1 ..) ?_
    rw [rm_LOST hM]
    refine wp_sw (wp_ret (k _ ?_))
    unfold fn_send
    rw [if_neg hr]
    exact wm_LOST hM _
