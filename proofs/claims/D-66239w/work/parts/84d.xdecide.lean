/-! PART 84d (src 84d.xdecide.src): what the component decides -/
set_option maxHeartbeats 800000
/-- one more session's row, as it is -/
theorem X_SESSi {T σ : z_St} {A : w_A} (h : w_X T σ A) {k : Nat} (hk : vN A 2 0 = k) (hl : k < 16) (hg : ∀ r, r < 16 → ¬ vN A 16 0 = r + 1) : ∃ (l1 l2 l3 : List Int32) (a0 : Nat) (g0 c0 : Int64) (p0 e0 : Int32), w_X T (wI σ 0 12 0 (Int32.ofNat (k + 1))) (sI (sI (sJ (sJ (sN (sL (sL (sL (sN A 2 0 (k + 1)) 4 k l1) 5 k l2) 6 k l3) 13 k a0) 5 k g0) 6 k c0) 20 k p0) 21 k e0) := by
  obtain ⟨hT, hA, hB, hC, hD, hE, hF, hG, hH, hI, hJ, hK, hL, hM, hN⟩ := h
  obtain ⟨a0, ha0⟩ := hJ.2.1.2 (vN A 17 k) (hJ.1 k hl).2.1
  have tx : ∀ t, ∃ l, x_txt σ t l := fun t => ⟨(List.range (gI σ 1 1 t).toBitVec.toNat).map (gI σ 80741649 t), by
    refine ⟨?_, fun j hj => ?_⟩
    · rw [List.length_map, List.length_range, io_bv]
    · rw [List.getElem_map, List.getElem_range]⟩
  obtain ⟨l1, hl1⟩ := tx (4 + 3 * vN A 17 k)
  obtain ⟨l2, hl2⟩ := tx (5 + 3 * vN A 17 k)
  obtain ⟨l3, hl3⟩ := tx (6 + 3 * vN A 17 k)
  refine ⟨l1, l2, l3, a0, gJ σ 5 4 (vN A 17 k), gJ σ 5 5 (vN A 17 k), gI σ 5 6 (vN A 17 k), gI σ 5 7 (vN A 17 k), ?_⟩
  refine ⟨x_T_wI hT (z_isM_dec _ rfl), hA, hB, ⟨hC.1, hC.2.1, rfl, hC.2.2.2⟩, hD, hE, hF, hG, hH, hI, ⟨hJ.1, hJ.2.1, fun r hr => ?_⟩, hK, hL, hM, ⟨hN.1, fun r hr e => absurd e (hg r hr)⟩⟩
  have hr' : r < k + 1 := hr
  simp only [ev_rd, ev_st, aEl, z_w, z_cat, Nat.reduceMod, Nat.reduceDiv, Nat.reduceLeDiff, Nat.reduceLT, Nat.reduceAdd, Nat.reduceMul, Nat.reduceSub, Nat.reduceEqDiff, Int32.reduceLT, Int32.reduceLE, Int32.reduceAdd, Int32.reduceSub, Int32.reduceMul, true_and, and_true, false_and, and_false, true_or, or_true, false_or, or_false, not_true_eq_false, not_false_eq_true, if_true, if_false, reduceIte, ne_eq, and_self, or_self, reduceCtorEq, Option.some.injEq, Prod.mk.injEq, vI_sI, vN_sN, vL_sL, vJ_sJ]
  by_cases e : r = k
  · subst e
    simp only [ev_rd, ev_st, aEl, z_w, z_cat, Nat.reduceMod, Nat.reduceDiv, Nat.reduceLeDiff, Nat.reduceLT, Nat.reduceAdd, Nat.reduceMul, Nat.reduceSub, Nat.reduceEqDiff, Int32.reduceLT, Int32.reduceLE, Int32.reduceAdd, Int32.reduceSub, Int32.reduceMul, true_and, and_true, false_and, and_false, true_or, or_true, false_or, or_false, not_true_eq_false, not_false_eq_true, if_true, if_false, reduceIte, ne_eq, and_self, or_self, reduceCtorEq, Option.some.injEq, Prod.mk.injEq]
    exact ⟨rfl, rfl, rfl, rfl, ha0, hl1, hl2, hl3⟩
  · simp only [e, ev_rd, ev_st, aEl, z_w, z_cat, Nat.reduceMod, Nat.reduceDiv, Nat.reduceLeDiff, Nat.reduceLT, Nat.reduceAdd, Nat.reduceMul, Nat.reduceSub, Nat.reduceEqDiff, Int32.reduceLT, Int32.reduceLE, Int32.reduceAdd, Int32.reduceSub, Int32.reduceMul, true_and, and_true, false_and, and_false, true_or, or_true, false_or, or_false, not_true_eq_false, not_false_eq_true, if_true, if_false, reduceIte, ne_eq, and_self, or_self, reduceCtorEq, Option.some.injEq, Prod.mk.injEq]
    exact hJ.2.2 r (by omega)
theorem note_eq (A : w_A) (P : w_P) (p s : Nat) (l1 l2 l3 n : List Int32) (a0 a : Nat) (g0 c0 : Int64) (p0 e0 : Int32) : fn_note (sJ (sN (sL (sI (sI (sJ (sJ (sN (sL (sL (sL A 4 s l1) 5 s l2) 6 s l3) 13 s a0) 5 s g0) 6 s c0) 20 s p0) 21 s e0) 4 s n) 13 s a) 5 s 0) P p s = sI (fn_note (sJ (sN (sL A 4 s n) 13 s a) 5 s 0) P p s) 21 s e0 := by
  unfold fn_note
  refine A_ext (fun v i => ?_) (fun v i => ?_) (fun v i => ?_) (fun v i => ?_) rfl
  · simp only [ev_rd, ev_st, aEl, z_w, z_cat, Nat.reduceMod, Nat.reduceDiv, Nat.reduceLeDiff, Nat.reduceLT, Nat.reduceAdd, Nat.reduceMul, Nat.reduceSub, Nat.reduceEqDiff, Int32.reduceLT, Int32.reduceLE, Int32.reduceAdd, Int32.reduceSub, Int32.reduceMul, true_and, and_true, false_and, and_false, true_or, or_true, false_or, or_false, not_true_eq_false, not_false_eq_true, if_true, if_false, reduceIte, ne_eq, and_self, or_self, reduceCtorEq, Option.some.injEq, Prod.mk.injEq, vI_sI]
    by_cases h1 : v = 20 ∧ i = s
    · obtain ⟨rfl, rfl⟩ := h1; simp only [ev_rd, ev_st, aEl, z_w, z_cat, Nat.reduceMod, Nat.reduceDiv, Nat.reduceLeDiff, Nat.reduceLT, Nat.reduceAdd, Nat.reduceMul, Nat.reduceSub, Nat.reduceEqDiff, Int32.reduceLT, Int32.reduceLE, Int32.reduceAdd, Int32.reduceSub, Int32.reduceMul, true_and, and_true, false_and, and_false, true_or, or_true, false_or, or_false, not_true_eq_false, not_false_eq_true, if_true, if_false, reduceIte, ne_eq, and_self, or_self, reduceCtorEq, Option.some.injEq, Prod.mk.injEq] <;> rfl
    · by_cases h2 : v = 21 ∧ i = s
      · obtain ⟨rfl, rfl⟩ := h2; simp only [ev_rd, ev_st, aEl, z_w, z_cat, Nat.reduceMod, Nat.reduceDiv, Nat.reduceLeDiff, Nat.reduceLT, Nat.reduceAdd, Nat.reduceMul, Nat.reduceSub, Nat.reduceEqDiff, Int32.reduceLT, Int32.reduceLE, Int32.reduceAdd, Int32.reduceSub, Int32.reduceMul, true_and, and_true, false_and, and_false, true_or, or_true, false_or, or_false, not_true_eq_false, not_false_eq_true, if_true, if_false, reduceIte, ne_eq, and_self, or_self, reduceCtorEq, Option.some.injEq, Prod.mk.injEq] <;> rfl
      · simp only [h1, h2, ev_rd, ev_st, aEl, z_w, z_cat, Nat.reduceMod, Nat.reduceDiv, Nat.reduceLeDiff, Nat.reduceLT, Nat.reduceAdd, Nat.reduceMul, Nat.reduceSub, Nat.reduceEqDiff, Int32.reduceLT, Int32.reduceLE, Int32.reduceAdd, Int32.reduceSub, Int32.reduceMul, true_and, and_true, false_and, and_false, true_or, or_true, false_or, or_false, not_true_eq_false, not_false_eq_true, if_true, if_false, reduceIte, ne_eq, and_self, or_self, reduceCtorEq, Option.some.injEq, Prod.mk.injEq]
  · simp only [ev_rd, ev_st, aEl, z_w, z_cat, Nat.reduceMod, Nat.reduceDiv, Nat.reduceLeDiff, Nat.reduceLT, Nat.reduceAdd, Nat.reduceMul, Nat.reduceSub, Nat.reduceEqDiff, Int32.reduceLT, Int32.reduceLE, Int32.reduceAdd, Int32.reduceSub, Int32.reduceMul, true_and, and_true, false_and, and_false, true_or, or_true, false_or, or_false, not_true_eq_false, not_false_eq_true, if_true, if_false, reduceIte, ne_eq, and_self, or_self, reduceCtorEq, Option.some.injEq, Prod.mk.injEq, vJ_sJ]
    by_cases h1 : v = 6 ∧ i = s
    · obtain ⟨rfl, rfl⟩ := h1; simp only [ev_rd, ev_st, aEl, z_w, z_cat, Nat.reduceMod, Nat.reduceDiv, Nat.reduceLeDiff, Nat.reduceLT, Nat.reduceAdd, Nat.reduceMul, Nat.reduceSub, Nat.reduceEqDiff, Int32.reduceLT, Int32.reduceLE, Int32.reduceAdd, Int32.reduceSub, Int32.reduceMul, true_and, and_true, false_and, and_false, true_or, or_true, false_or, or_false, not_true_eq_false, not_false_eq_true, if_true, if_false, reduceIte, ne_eq, and_self, or_self, reduceCtorEq, Option.some.injEq, Prod.mk.injEq] <;> rfl
    · by_cases h2 : v = 5 ∧ i = s
      · obtain ⟨rfl, rfl⟩ := h2; simp only [ev_rd, ev_st, aEl, z_w, z_cat, Nat.reduceMod, Nat.reduceDiv, Nat.reduceLeDiff, Nat.reduceLT, Nat.reduceAdd, Nat.reduceMul, Nat.reduceSub, Nat.reduceEqDiff, Int32.reduceLT, Int32.reduceLE, Int32.reduceAdd, Int32.reduceSub, Int32.reduceMul, true_and, and_true, false_and, and_false, true_or, or_true, false_or, or_false, not_true_eq_false, not_false_eq_true, if_true, if_false, reduceIte, ne_eq, and_self, or_self, reduceCtorEq, Option.some.injEq, Prod.mk.injEq] <;> rfl
      · simp only [h1, h2, ev_rd, ev_st, aEl, z_w, z_cat, Nat.reduceMod, Nat.reduceDiv, Nat.reduceLeDiff, Nat.reduceLT, Nat.reduceAdd, Nat.reduceMul, Nat.reduceSub, Nat.reduceEqDiff, Int32.reduceLT, Int32.reduceLE, Int32.reduceAdd, Int32.reduceSub, Int32.reduceMul, true_and, and_true, false_and, and_false, true_or, or_true, false_or, or_false, not_true_eq_false, not_false_eq_true, if_true, if_false, reduceIte, ne_eq, and_self, or_self, reduceCtorEq, Option.some.injEq, Prod.mk.injEq]
  · simp only [ev_rd, ev_st, aEl, z_w, z_cat, Nat.reduceMod, Nat.reduceDiv, Nat.reduceLeDiff, Nat.reduceLT, Nat.reduceAdd, Nat.reduceMul, Nat.reduceSub, Nat.reduceEqDiff, Int32.reduceLT, Int32.reduceLE, Int32.reduceAdd, Int32.reduceSub, Int32.reduceMul, true_and, and_true, false_and, and_false, true_or, or_true, false_or, or_false, not_true_eq_false, not_false_eq_true, if_true, if_false, reduceIte, ne_eq, and_self, or_self, reduceCtorEq, Option.some.injEq, Prod.mk.injEq, vN_sN]
    by_cases h1 : v = 13 ∧ i = s
    · obtain ⟨rfl, rfl⟩ := h1; simp only [ev_rd, ev_st, aEl, z_w, z_cat, Nat.reduceMod, Nat.reduceDiv, Nat.reduceLeDiff, Nat.reduceLT, Nat.reduceAdd, Nat.reduceMul, Nat.reduceSub, Nat.reduceEqDiff, Int32.reduceLT, Int32.reduceLE, Int32.reduceAdd, Int32.reduceSub, Int32.reduceMul, true_and, and_true, false_and, and_false, true_or, or_true, false_or, or_false, not_true_eq_false, not_false_eq_true, if_true, if_false, reduceIte, ne_eq, and_self, or_self, reduceCtorEq, Option.some.injEq, Prod.mk.injEq] <;> rfl
    · simp only [h1, ev_rd, ev_st, aEl, z_w, z_cat, Nat.reduceMod, Nat.reduceDiv, Nat.reduceLeDiff, Nat.reduceLT, Nat.reduceAdd, Nat.reduceMul, Nat.reduceSub, Nat.reduceEqDiff, Int32.reduceLT, Int32.reduceLE, Int32.reduceAdd, Int32.reduceSub, Int32.reduceMul, true_and, and_true, false_and, and_false, true_or, or_true, false_or, or_false, not_true_eq_false, not_false_eq_true, if_true, if_false, reduceIte, ne_eq, and_self, or_self, reduceCtorEq, Option.some.injEq, Prod.mk.injEq]
  · simp only [ev_rd, ev_st, aEl, z_w, z_cat, Nat.reduceMod, Nat.reduceDiv, Nat.reduceLeDiff, Nat.reduceLT, Nat.reduceAdd, Nat.reduceMul, Nat.reduceSub, Nat.reduceEqDiff, Int32.reduceLT, Int32.reduceLE, Int32.reduceAdd, Int32.reduceSub, Int32.reduceMul, true_and, and_true, false_and, and_false, true_or, or_true, false_or, or_false, not_true_eq_false, not_false_eq_true, if_true, if_false, reduceIte, ne_eq, and_self, or_self, reduceCtorEq, Option.some.injEq, Prod.mk.injEq, vL_sL]
    by_cases h1 : v = 6 ∧ i = s
    · obtain ⟨rfl, rfl⟩ := h1; simp only [ev_rd, ev_st, aEl, z_w, z_cat, Nat.reduceMod, Nat.reduceDiv, Nat.reduceLeDiff, Nat.reduceLT, Nat.reduceAdd, Nat.reduceMul, Nat.reduceSub, Nat.reduceEqDiff, Int32.reduceLT, Int32.reduceLE, Int32.reduceAdd, Int32.reduceSub, Int32.reduceMul, true_and, and_true, false_and, and_false, true_or, or_true, false_or, or_false, not_true_eq_false, not_false_eq_true, if_true, if_false, reduceIte, ne_eq, and_self, or_self, reduceCtorEq, Option.some.injEq, Prod.mk.injEq] <;> rfl
    · by_cases h2 : v = 5 ∧ i = s
      · obtain ⟨rfl, rfl⟩ := h2; simp only [ev_rd, ev_st, aEl, z_w, z_cat, Nat.reduceMod, Nat.reduceDiv, Nat.reduceLeDiff, Nat.reduceLT, Nat.reduceAdd, Nat.reduceMul, Nat.reduceSub, Nat.reduceEqDiff, Int32.reduceLT, Int32.reduceLE, Int32.reduceAdd, Int32.reduceSub, Int32.reduceMul, true_and, and_true, false_and, and_false, true_or, or_true, false_or, or_false, not_true_eq_false, not_false_eq_true, if_true, if_false, reduceIte, ne_eq, and_self, or_self, reduceCtorEq, Option.some.injEq, Prod.mk.injEq] <;> rfl
      · by_cases h3 : v = 4 ∧ i = s
        · obtain ⟨rfl, rfl⟩ := h3; simp only [ev_rd, ev_st, aEl, z_w, z_cat, Nat.reduceMod, Nat.reduceDiv, Nat.reduceLeDiff, Nat.reduceLT, Nat.reduceAdd, Nat.reduceMul, Nat.reduceSub, Nat.reduceEqDiff, Int32.reduceLT, Int32.reduceLE, Int32.reduceAdd, Int32.reduceSub, Int32.reduceMul, true_and, and_true, false_and, and_false, true_or, or_true, false_or, or_false, not_true_eq_false, not_false_eq_true, if_true, if_false, reduceIte, ne_eq, and_self, or_self, reduceCtorEq, Option.some.injEq, Prod.mk.injEq] <;> rfl
        · simp only [h1, h2, h3, ev_rd, ev_st, aEl, z_w, z_cat, Nat.reduceMod, Nat.reduceDiv, Nat.reduceLeDiff, Nat.reduceLT, Nat.reduceAdd, Nat.reduceMul, Nat.reduceSub, Nat.reduceEqDiff, Int32.reduceLT, Int32.reduceLE, Int32.reduceAdd, Int32.reduceSub, Int32.reduceMul, true_and, and_true, false_and, and_false, true_or, or_true, false_or, or_false, not_true_eq_false, not_false_eq_true, if_true, if_false, reduceIte, ne_eq, and_self, or_self, reduceCtorEq, Option.some.injEq, Prod.mk.injEq]
theorem grant_SEND (A : w_A) (P : w_P) (s : Nat) (e : Int32) : fn_grant (sI A 21 s e) P s = fn_grant A P s := by
  have e1 : ∀ (X : w_A) (z : Int32), sI (sI X 21 s e) 21 s z = sI X 21 s z := fun X z => sI_sI X _ _ _ _
  unfold fn_grant
  dsimp only
  show sN (sI (sI (sJ (sJ A 5 s _) 2 _ _) 21 s e) 21 s _) 16 0 (s + 1) = _
  rw [e1]
  rfl
/-- credit's bounds -/
def z_CB (n : Nat) (A : w_A) : Prop := z_B n A ∧ z_SN A ∧ (∀ s, s < vN A 2 0 → ¬ vN A 13 s = 0) ∧ ∀ r, r < 16 → ¬ vN A 16 0 = r + 1
theorem grant_B {n : Nat} {A : w_A} (h : z_B n A) (P : w_P) (s : Nat) : z_B n (fn_grant A P s) := h
theorem wx_SACCs {T σ : z_St} {A : w_A} (h : w_X T σ A) {s : Nat} (hs : s < vN A 2 0) (hl : vN A 2 0 ≤ 16) (a : Nat) : w_X T (wR σ 5 3 (vN A 17 s) (some (10, a))) (sN A 13 s (a + 1)) := wx_SACC h hs hl (a + 1)
theorem xc_begins {T σ : z_St} {A : w_A} (hX : w_X T σ A) {P : w_P} (hP : vP A = some P) (hr : z_rP (vI A 64) P) {n p : Nat} (hC : z_CB n A) (hw : pW P = 0) (hrq : fn_req P) (hm272 : pM P = 272) (hp : p < vN A 0 0) {d : Nat} {Q : z_St → Option z_V → Prop} (k : ∀ σ, w_X T σ (fn_begins A P p).1 → Q σ (some (.inl (fn_begins A P p).2))) : wp (zD (d + 5) 62 [.inr (.inr (some (0, 0))), .inr (.inr (some (9, p))), .inr (.inr (some (3, 0)))] σ) Q := by
  obtain ⟨hB, hSN, hSA, hG⟩ := hC
  have hb := hB.1
  have hIB := hB.2.2.2.2.2.2.2.2.2.2.2.2
  unfold fn_begins at k
  refine wp_eq (c62 ..) (wp_eq (e62_0 ..) (wp_cr (xc_sub (d := d + 1) hX (rx_msg hX hP) hr (by omega) fun σ hX hm => ⟨_, rfl, wp_asR0 ?_⟩)))
  cases hsub : fn_sub A P with
  | none =>
    rw [hsub] at k
    exact wp_if (fun _ => wp_eq (e62_1 ..) (wp_ret (k σ hX))) (fun q => absurd rfl q)
  | some a =>
    rw [hsub] at k
    dsimp only at k
    refine wp_if (fun q => absurd q (by simp)) (fun _ => ?_)
    refine wp_eq (e62_2 ..) (wp_cr (xc_sess (d := d + 1) hX hm hr (by omega) hSN ⟨_, rfl, wp_asR0 ?_⟩))
    have bad : ((fn_sess A P).isSome = true ∨ vN A 2 0 = 16) → wp (E xP62 (zD (d + 4)) 4 [none, none, none, none, none] [] σ) Q := by
      intro h
      rw [if_pos h] at k
      exact wp_eq (e62_4 ..) (wp_ret (k σ hX))
    cases hses : fn_sess A P with
    | some s => exact wp_if (fun q => absurd q (by simp)) (fun _ => bad (.inl (by rw [hses]; rfl)))
    | none =>
      refine wp_if (fun _ => ?_) (fun q => absurd rfl q)
      refine wp_eq (e62_3 ..) (wp_if (fun q => ?_) (fun q => ?_)) <;> rw [rx_SESS hX, io_eq_l (by omega) (by decide)] at q
      · exact bad (.inr q)
      have q : ¬ vN A 2 0 = 16 := q
      rw [if_neg (fun h => h.elim (fun h => by rw [hses] at h; exact absurd h (by decide)) q)] at k
      refine wp_eq (e62_5 ..) (wp_dr rfl (wp_gd rfl (wp_cr (xc_free (d := d + 3) hX ⟨_, rfl, wp_asJ0 ?_⟩))))
      refine wp_if (fun h => ?_) (fun h => ?_) <;> rw [lg_eq] at h
      · rw [if_pos h] at k
        exact wp_eq (e62_6 ..) (wp_ret (k σ hX))
      rw [if_neg h] at k
      obtain ⟨l1, l2, l3, a0, g0, c0, p0, e0, hX1⟩ := X_SESSi hX rfl (show vN A 2 0 < 16 by omega) hG
      have hs16 : vN A 2 0 < 16 := by omega
      refine wp_eq (e62_7 ..) ?_
      rw [rx_SESS hX, io_add_l]
      refine wp_sw (wp_dr (rx_p0_11 hX) (wp_gd (by rw [aty_4194839]; decide) (wp_gd ?_ ?_)))
      · rw [alen_4194839]; exact zin_io (by omega) (by decide)
      dsimp only
      rw [io_nat (by omega)]
      have so := rx_sobj hX1 hs16
      generalize wI σ 0 12 0 (Int32.ofNat (vN A 2 0 + 1)) = σ at *
      generalize hs : vN A 2 0 = s at *
      have so : gR σ 4194839 0 s = some (5, vN A 17 s) := so
      rw [so]
      refine wp_dr rfl (wp_gd rfl (wp_dr rfl (wp_gd rfl ?_)))
      dsimp only
      rw [show gR σ 5 0 (vN A 17 s) = some (1, 4 + 3 * vN A 17 s) from rx_p5_0 hX1 _]
      have hcr := rP_cred hr hw hrq hm272
      have n1 := rP_taken hIB hr (show fn_kind 263 = 1 by decide)
      refine wp_cv (xc_take_ (d := d + 2) hX1 (rx_msg hX1 (P := P) hP) hr (by decide) hcr.1 fun f m hmm hf => ⟨rfl, ?_⟩)
      subst hmm
      have hX2 := wx_SNAME hX1 (s := s) (show s < s + 1 by omega) (show s + 1 ≤ 16 by omega) n1.1 hf
      refine wp_dr rfl (wp_gd rfl (wp_swX (wx_SACCs hX2 (s := s) (show s < s + 1 by omega) (show s + 1 ≤ 16 by omega) a) fun σ hX => wp_dr rfl (wp_gd rfl (wp_swX (wx_SGRANT hX (s := s) (show s < s + 1 by omega) (show s + 1 ≤ 16 by omega) 0) fun σ hX => ?_))))
      refine wp_cv (xc_snote (d := d + 1) (s := s) (p := p) hX (P := P) hP hr hIB hw (show s < s + 1 by omega) (show s + 1 ≤ 16 by omega) hp fun σ hX => ⟨rfl, ?_⟩)
      have hX := X_cv hX (note_eq (sN A 2 0 (s + 1)) P p s l1 l2 l3 (fn_taken (vI A 64) P 263) a0 (a + 1) g0 c0 p0 e0)
      have hBn : z_B n (fn_note (sJ (sN (sL (sN A 2 0 (s + 1)) 4 s (fn_taken (vI A 64) P 263)) 13 s (a + 1)) 5 s 0) P p s) → True := fun _ => trivial
      have hB2 : vN A 5 0 ≤ 200000 := hb.2.2.2.2.2
      refine wp_cr (xc_grantN (d := d) (s := s) hX (P := P) hP hr hB2 (show s < s + 1 by omega) (show s + 1 ≤ 16 by omega) ?_ fun σ hX => ⟨_, rfl, wp_asI0 (wp_ret (k σ ?_))⟩)
      · show ¬ vN (fn_note (sJ (sN (sL (sN A 2 0 (s + 1)) 4 s (fn_taken (vI A 64) P 263)) 13 s (a + 1)) 5 s 0) P p s) 13 s = 0
        unfold fn_note
        simp only [ev_rd, ev_st, aEl, z_w, z_cat, Nat.reduceMod, Nat.reduceDiv, Nat.reduceLeDiff, Nat.reduceLT, Nat.reduceAdd, Nat.reduceMul, Nat.reduceSub, Nat.reduceEqDiff, Int32.reduceLT, Int32.reduceLE, Int32.reduceAdd, Int32.reduceSub, Int32.reduceMul, true_and, and_true, false_and, and_false, true_or, or_true, false_or, or_false, not_true_eq_false, not_false_eq_true, if_true, if_false, reduceIte, ne_eq, and_self, or_self, reduceCtorEq, Option.some.injEq, Prod.mk.injEq]
      · rw [grant_SEND] at hX
        exact hX
theorem xc_used {T σ : z_St} {A : w_A} (hX : w_X T σ A) {P : w_P} (hm : x_msg σ P) (hr : z_rP (vI A 64) P) {d : Nat} {Q : z_St → Option z_V → Prop} (k : ∀ σ, w_X T σ A → x_msg σ P → Q σ (some (.inr (.inl (fn_used A P))))) : wp (zD (d + 4) 63 [.inr (.inr (some (3, 0)))] σ) Q := by
  refine wp_eq (c63 ..) (wp_eq (e63_0 ..) (wp_cr (xc_units_ (d := d) hX hm hr (by decide) fun σ hX hm => ⟨_, rfl, wp_asJ0 (wp_ret (k σ hX hm))⟩)))
theorem sess_lt {A : w_A} {P : w_P} {s : Nat} (h : fn_sess A P = some s) : s < vN A 2 0 := (fn_first_some h).1
theorem xc_goes {T σ : z_St} {A : w_A} (hX : w_X T σ A) {P : w_P} (hP : vP A = some P) (hr : z_rP (vI A 64) P) {n p : Nat} (hC : z_CB n A) (hw : pW P = 0) (hp : p < vN A 0 0) {d : Nat} {Q : z_St → Option z_V → Prop} (k : ∀ σ, w_X T σ (fn_goes A P p).1 → Q σ (some (.inl (fn_goes A P p).2))) : wp (zD (d + 5) 64 [.inr (.inr (some (0, 0))), .inr (.inr (some (9, p))), .inr (.inr (some (3, 0)))] σ) Q := by
  obtain ⟨hB, hSN, hSA, hG⟩ := hC
  have hb := hB.1
  have hIB := hB.2.2.2.2.2.2.2.2.2.2.2.2
  obtain ⟨hc1, hc8⟩ := rP_C hr
  have hln := rP_len hr
  have hm := rx_msg hX hP
  unfold fn_goes at k
  refine wp_eq (c64 ..) (wp_eq (e64_0 ..) (wp_cr (xc_sess (d := d + 1) hX hm hr (by omega) hSN ⟨_, rfl, wp_asR0 ?_⟩)))
  cases hses : fn_sess A P with
  | none =>
    rw [hses] at k
    exact wp_if (fun _ => wp_eq (e64_1 ..) (wp_ret (k σ hX))) (fun q => absurd rfl q)
  | some s =>
    rw [hses] at k
    dsimp only at k
    have hs := sess_lt hses
    have ha := hSA s hs
    refine wp_if (fun q => absurd q (by simp)) (fun _ => ?_)
    refine wp_eq (e64_2 ..) (wp_dr rfl (wp_gd rfl (wp_cr (xc_number (d := d + 2) (code := 415) hX hm (by omega) hc1 hc8 (rP_num hr (by decide)) ⟨_, rfl, ?_⟩))))
    refine wp_dr rfl (wp_gd rfl (wp_asJ0 ?_))
    dsimp only
    rw [rx_SCOUNT hX hs]
    refine wp_if (fun h => ?_) (fun h => ?_) <;> rw [lg_gt] at h
    rotate_left
    · rw [if_pos (Int64.not_lt.mp h)] at k
      exact wp_eq (e64_3 ..) (wp_ret (k σ hX))
    rw [if_neg (Int64.not_le.mpr h)] at k
    refine wp_eq (e64_4 ..) (wp_cr (xc_used (d := d) hX hm hr fun σ hX hm => ⟨_, rfl, wp_dr rfl (wp_gd rfl ?_)⟩))
    refine wp_cv (xc_settle (d := d + 2) hX hs (by omega) ha fun σ hX => ⟨rfl, ?_⟩)
    refine wp_cv (xc_snote (d := d + 1) (s := s) (p := p) hX (P := P) hP hr hIB hw hs (show vN A 2 0 ≤ 16 by omega) hp fun σ hX => ⟨rfl, wp_dr rfl (wp_gd rfl ?_)⟩)
    have ra := rx_SACC hX (s := s) hs
    have ea : vN (fn_note (fn_settle A s (fn_used A P)) P p s) 13 s = vN A 13 s := rfl
    rw [ea, if_neg ha] at ra
    refine wp_dr ra (wp_gd rfl (wp_cr (xc_free (d := d + 3) hX ⟨_, rfl, wp_asJ0 ?_⟩)))
    generalize hBB : fn_note (fn_settle A s (fn_used A P)) P p s = B at *
    have hPB : vP B = some P := by rw [← hBB]; exact hP
    have hrB : z_rP (vI B 64) P := by rw [← hBB]; exact hr
    have hsB : s < vN B 2 0 := by rw [← hBB]; exact hs
    have hlB : vN B 2 0 ≤ 16 := by rw [← hBB]; show vN A 2 0 ≤ 16; omega
    have hnB : vN B 5 0 = vN A 5 0 := by rw [← hBB]; rfl
    have eo : vN A 17 s = vN B 17 s := by rw [← hBB]; rfl
    refine wp_if (fun h => ?_) (fun h => ?_) <;> rw [lg_le] at h
    · rw [if_neg h] at k
      refine wp_eq (e64_6 ..) (wp_dr rfl (wp_gd rfl ?_))
      dsimp only
      rw [rx_NOW hX, io_add_l, hnB, eo]
      exact wp_swX (wx_SEND hX hsB hlB _) fun σ hX => wp_ret (k σ hX)
    · rw [if_pos (Classical.not_not.mp h)] at k
      refine wp_eq (e64_5 ..) ?_
      rw [Option.map_some, eo]
      exact wp_cr (xc_grantN (d := d) (s := s) hX hPB hrB (by rw [hnB]; omega) hsB hlB (by rw [ea]; exact ha) fun σ hX => ⟨_, rfl, wp_asI0 (wp_ret (k σ hX))⟩)
theorem xc_ends {T σ : z_St} {A : w_A} (hX : w_X T σ A) {P : w_P} (hP : vP A = some P) (hr : z_rP (vI A 64) P) {n : Nat} (hC : z_CB n A) {d : Nat} {Q : z_St → Option z_V → Prop} (k : ∀ σ, w_X T σ (fn_ends A P).1 → Q σ (some (.inl (fn_ends A P).2))) : wp (zD (d + 5) 66 [.inr (.inr (some (0, 0))), .inr (.inr (some (3, 0)))] σ) Q := by
  obtain ⟨hB, hSN, hSA, hG⟩ := hC
  have hb := hB.1
  obtain ⟨hc1, hc8⟩ := rP_C hr
  have hln := rP_len hr
  have hm := rx_msg hX hP
  unfold fn_ends at k
  refine wp_eq (c66 ..) (wp_eq (e66_0 ..) (wp_cr (xc_sess (d := d + 1) hX hm hr (by omega) hSN ⟨_, rfl, wp_asR0 ?_⟩)))
  cases hses : fn_sess A P with
  | none =>
    rw [hses] at k
    exact wp_if (fun _ => wp_eq (e66_1 ..) (wp_ret (k σ hX))) (fun q => absurd rfl q)
  | some s =>
    rw [hses] at k
    dsimp only at k
    have hs := sess_lt hses
    have ha := hSA s hs
    refine wp_if (fun q => absurd q (by simp)) (fun _ => ?_)
    refine wp_eq (e66_2 ..) (wp_dr rfl (wp_gd rfl (wp_cr (xc_number (d := d + 2) (code := 415) hX hm (by omega) hc1 hc8 (rP_num hr (by decide)) ⟨_, rfl, ?_⟩))))
    refine wp_dr rfl (wp_gd rfl (wp_asJ0 ?_))
    dsimp only
    rw [rx_SCOUNT hX hs]
    refine wp_if (fun h => ?_) (fun h => ?_) <;> rw [lg_gt] at h
    rotate_left
    · rw [if_pos (Int64.not_lt.mp h)] at k
      exact wp_eq (e66_3 ..) (wp_ret (k σ hX))
    rw [if_neg (Int64.not_le.mpr h)] at k
    refine wp_eq (e66_4 ..) (wp_cr (xc_used (d := d) hX hm hr fun σ hX hm => ⟨_, rfl, wp_dr rfl (wp_gd rfl ?_)⟩))
    refine wp_cv (xc_settle (d := d + 2) hX hs (by omega) ha fun σ hX => ⟨rfl, ?_⟩)
    exact wp_cv (xc_remove (d := d + 3) (s := s) hX hs (show vN A 2 0 ≤ 16 by omega) hG fun σ hX => ⟨rfl, wp_ret (k σ hX)⟩)
theorem xc_event {T σ : z_St} {A : w_A} (hX : w_X T σ A) {P : w_P} (hP : vP A = some P) (hr : z_rP (vI A 64) P) (hl : vN A 1 0 ≤ 16) {act : Int32} (hact : act = 0 ∨ act = 1 ∨ act = 2) {d : Nat} {Q : z_St → Option z_V → Prop} (k : ∀ σ, w_X T σ (fn_event A P act).1 → Q σ (some (.inl (fn_event A P act).2))) : wp (zD (d + 4) 67 [.inr (.inr (some (0, 0))), .inr (.inr (some (3, 0))), .inl act] σ) Q := by
  have hm := rx_msg hX hP
  unfold fn_event at k
  refine wp_eq (c67 ..) (wp_eq (e67_0 ..) (wp_cr (xc_sub (d := d) hX hm hr hl fun σ hX hm => ⟨_, rfl, wp_asR0 ?_⟩)))
  cases hsub : fn_sub A P with
  | none =>
    rw [hsub] at k
    exact wp_if (fun _ => wp_eq (e67_1 ..) (wp_ret (k σ hX))) (fun q => absurd rfl q)
  | some a =>
    rw [hsub] at k
    dsimp only at k
    refine wp_if (fun q => absurd q (by simp)) (fun _ => ?_)
    refine wp_eq (e67_2 ..) (wp_cr (xc_units_ (d := d) hX hm hr (by decide) fun σ hX hm => ⟨_, rfl, wp_asJ0 ?_⟩))
    generalize (if fn_units (vI A 64) P 437 < 0 then (0 : Int64) else fn_units (vI A 64) P 437) = w at *
    have n02 : ¬ (0 : Int32) = 2 := by decide
    have n01 : ¬ (0 : Int32) = 1 := by decide
    have n12 : ¬ (1 : Int32) = 2 := by decide
    have n10 : ¬ (1 : Int32) = 0 := by decide
    have n21 : ¬ (2 : Int32) = 1 := by decide
    have n20 : ¬ (2 : Int32) = 0 := by decide
    rcases hact with rfl | rfl | rfl
    · rw [if_neg n02, if_pos rfl] at k
      refine wp_if (fun _ => ?_) (fun q => absurd rfl q)
      refine wp_eq (e67_3 ..) (wp_dr rfl (wp_gd rfl (wp_cr (xc_free (d := d + 2) hX ⟨_, rfl, wp_asJ0 ?_⟩))))
      refine wp_if (fun h => ?_) (fun h => ?_) <;> rw [lg_le] at h
      · rw [if_neg h] at k
        refine wp_eq (e67_5 ..) (wp_if (fun q => absurd q n01) (fun _ => ?_))
        refine wp_eq (e67_8 ..) (wp_if (fun q => absurd q n02) (fun _ => ?_))
        refine wp_eq (e67_13 ..) (wp_if (fun _ => ?_) (fun q => absurd rfl q))
        refine wp_eq (e67_14 ..) (wp_eq (e67_16 ..) (wp_dr rfl (wp_gd rfl ?_)))
        exact wp_cv (xc_charge (d := d + 2) hX fun σ hX => ⟨rfl, wp_eq (e67_17 ..) (wp_ret (k σ hX))⟩)
      · rw [if_pos (Classical.not_not.mp h)] at k
        exact wp_eq (e67_4 ..) (wp_ret (k σ hX))
    · rw [if_neg n12, if_neg n10] at k
      refine wp_if (fun q => absurd q n10) (fun _ => ?_)
      refine wp_eq (e67_5 ..) (wp_if (fun _ => ?_) (fun q => absurd rfl q))
      refine wp_eq (e67_6 ..) (wp_dr rfl (wp_gd rfl ?_))
      dsimp only
      rw [rx_ABAL hX]
      refine wp_if (fun h => ?_) (fun h => ?_) <;> rw [lg_le] at h
      · rw [if_neg h] at k
        refine wp_eq (e67_8 ..) (wp_if (fun q => absurd q n12) (fun _ => ?_))
        refine wp_eq (e67_13 ..) (wp_if (fun q => absurd q n10) (fun _ => ?_))
        refine wp_eq (e67_15 ..) (wp_eq (e67_16 ..) (wp_dr rfl (wp_gd rfl ?_)))
        refine wp_cv (xc_charge (d := d + 2) hX fun σ hX => ⟨rfl, wp_eq (e67_17 ..) (wp_ret (k σ ?_))⟩)
        rw [Int64.sub_neg, ← Int64.sub_eq_add_neg] at hX
        exact hX
      · rw [if_pos (Classical.not_not.mp h)] at k
        exact wp_eq (e67_7 ..) (wp_ret (k σ hX))
    · rw [if_pos rfl] at k
      refine wp_if (fun q => absurd q n20) (fun _ => ?_)
      refine wp_eq (e67_5 ..) (wp_if (fun q => absurd q n21) (fun _ => ?_))
      refine wp_eq (e67_8 ..) (wp_if (fun _ => ?_) (fun q => absurd rfl q))
      refine wp_eq (e67_9 ..) (wp_dr rfl (wp_gd rfl (wp_cr (xc_free (d := d + 2) hX ⟨_, rfl, wp_asJ0 ?_⟩))))
      refine wp_if (fun h => ?_) (fun h => ?_) <;> rw [lg_le] at h
      · rw [b2i_f h] at k
        exact wp_eq (e67_11 ..) (wp_eq (e67_12 ..) (wp_dr rfl (wp_gd rfl (wp_swX (wx_ENOUGH hX 0) fun σ hX => wp_eq (e67_17 ..) (wp_ret (k σ hX))))))
      · rw [b2i_t (Classical.not_not.mp h)] at k
        exact wp_eq (e67_10 ..) (wp_eq (e67_12 ..) (wp_dr rfl (wp_gd rfl (wp_swX (wx_ENOUGH hX 1) fun σ hX => wp_eq (e67_17 ..) (wp_ret (k σ hX))))))
/-! the type of a credit, as an int -/
theorem un4_int (r : Nat → Int32) (c k : Nat) : 0 ≤ (un4 r c k).toInt ∧ (un4 r c k).toInt < 4294967296 := by
  have h1 := un4_nat r c k
  have h2 := gv4_lt r c k
  have e : (un4 r c k).toInt = ((un4 r c k).toBitVec.toNat : Int) := by
    show (un4 r c k).toBitVec.toInt = _
    rw [BitVec.toInt_eq_toNat_of_lt (by omega)]
  rw [e, h1]
  omega
theorem fn_n_int (r : Nat → Int32) (P : w_P) (code : Int32) : -1 ≤ (fn_n r P code).toInt ∧ (fn_n r P code).toInt < 4294967296 := by
  unfold fn_n
  split
  · have := un4_int r (pC P) ‹w_Q›.2.1
    omega
  · exact ⟨by decide, by decide⟩
theorem i64_of {x : Int64} {k : Int} (h : x.toInt = k) {y : Int64} (hy : y.toInt = k) : x = y := Int64.toInt_inj.mp (h.trans hy.symm)
theorem min5 {t : Int64} (h1 : -1 ≤ t.toInt) : ((if t < 5 then t else 5).toInt32 < 1) = (t < 1) ∧ (4 < (if t < 5 then t else 5).toInt32) = (4 < t) ∧ ((if t < 5 then t else 5).toInt32 = 1) = (t = 1) ∧ ((if t < 5 then t else 5).toInt32 = 2) = (t = 2) ∧ ((if t < 5 then t else 5).toInt32 = 3) = (t = 3) ∧ ((if t < 5 then t else 5).toInt32 = 4) = (t = 4) := by
  by_cases h : t < 5
  · have h5 : t.toInt < 5 := by
      have := Int64.lt_iff_toInt_lt.mp h
      exact this
    rw [if_pos h]
    have hc : t.toInt = -1 ∨ t.toInt = 0 ∨ t.toInt = 1 ∨ t.toInt = 2 ∨ t.toInt = 3 ∨ t.toInt = 4 := by omega
    rcases hc with e | e | e | e | e | e
    · rw [i64_of e (show (-1 : Int64).toInt = -1 from rfl)]; decide
    · rw [i64_of e (show (0 : Int64).toInt = 0 from rfl)]; decide
    · rw [i64_of e (show (1 : Int64).toInt = 1 from rfl)]; decide
    · rw [i64_of e (show (2 : Int64).toInt = 2 from rfl)]; decide
    · rw [i64_of e (show (3 : Int64).toInt = 3 from rfl)]; decide
    · rw [i64_of e (show (4 : Int64).toInt = 4 from rfl)]; decide
  · have h5 : 5 ≤ t.toInt := by
      have := Int64.le_iff_toInt_le.mp (Int64.not_lt.mp h)
      exact this
    rw [if_neg h]
    have ne : ∀ k : Int64, k.toInt < 5 → ¬ t = k := fun k hk e => by rw [e] at h5; omega
    refine ⟨?_, ?_, ?_, ?_, ?_, ?_⟩
    · refine propext ⟨fun q => absurd q (by decide), fun q => ?_⟩
      have := Int64.lt_iff_toInt_lt.mp q
      have : t.toInt < 1 := this
      omega
    · refine propext ⟨fun _ => Int64.lt_iff_toInt_lt.mpr ?_, fun _ => by decide⟩
      show (4 : Int) < t.toInt
      omega
    · exact propext ⟨fun q => absurd q (by decide), fun q => absurd q (ne 1 (by decide))⟩
    · exact propext ⟨fun q => absurd q (by decide), fun q => absurd q (ne 2 (by decide))⟩
    · exact propext ⟨fun q => absurd q (by decide), fun q => absurd q (ne 3 (by decide))⟩
    · exact propext ⟨fun q => absurd q (by decide), fun q => absurd q (ne 4 (by decide))⟩
theorem xc_decide {T σ : z_St} {A : w_A} (hX : w_X T σ A) {P : w_P} (hP : vP A = some P) (hr : z_rP (vI A 64) P) {n p : Nat} (hC : z_CB n A) (hw : pW P = 0) (hrq : fn_req P) (hm272 : pM P = 272) (hp : p < vN A 0 0) {d : Nat} {Q : z_St → Option z_V → Prop} (k : ∀ σ, w_X T σ (fn_decide A P p).1 → Q σ (some (.inl (fn_decide A P p).2))) : wp (zD (d + 6) 59 [.inr (.inr (some (0, 0))), .inr (.inr (some (9, p))), .inr (.inr (some (3, 0)))] σ) Q := by
  have hb := hC.1.1
  obtain ⟨hc1, hc8⟩ := rP_C hr
  have hln := rP_len hr
  have hm := rx_msg hX hP
  have ht := fn_n_int (vI A 64) P 416
  unfold fn_decide at k
  refine wp_eq (c59 ..) (wp_eq (e59_0 ..) (wp_dr rfl (wp_gd rfl (wp_cr (xc_number (d := d + 3) (code := 416) hX hm (by omega) hc1 hc8 (rP_num hr (by decide)) ⟨_, rfl, wp_asJ0 (wp_dr rfl (wp_gd rfl (wp_cr ?_)))⟩)))))
  refine xc_number (d := d + 3) (code := 436) hX hm (by omega) hc1 hc8 (rP_num hr (by decide)) ⟨_, rfl, wp_asJ0 ?_⟩
  obtain ⟨m1, m2, m3, m4, m5, m6⟩ := min5 ht.1
  generalize fn_n (vI A 64) P 416 = t at *
  generalize hact : fn_n (vI A 64) P 436 = act at *
  generalize (if t < 5 then t else 5).toInt32 = x at *
  dsimp only at k
  have bad : ∀ σ, w_X T σ A → (t < 1 ∨ 4 < t ∨ ¬ fn_right (vI A 64) P 437 ∨ ¬ fn_right (vI A 64) P 446 ∨ (t = 4 ∧ ¬ (0 ≤ act ∧ act ≤ 2))) → wp (E xP59 (zD (d + 5)) 6 [none, none, none, none, none, none] [] σ) Q := by
    intro σ hX h
    rw [if_pos h] at k
    exact wp_eq (e59_6 ..) (wp_ret (k σ hX))
  refine wp_if (fun h => ?_) (fun h1 => ?_)
  · rw [m1] at h; exact bad σ hX (.inl h)
  rw [m1] at h1
  refine wp_eq (e59_1 ..) (wp_if (fun h => ?_) (fun h2 => ?_))
  · rw [m2] at h; exact bad σ hX (.inr (.inl h))
  rw [m2] at h2
  refine wp_eq (e59_2 ..) (wp_cr (xc_right (d := d + 2) hX hm hr (by decide) fun σ hX hm => ⟨_, rfl, wp_asI0 ?_⟩))
  refine wp_if (fun q => ?_) (fun q => ?_) <;> rw [b2i_0] at q
  · exact bad σ hX (.inr (.inr (.inl q)))
  have h3 := q
  refine wp_eq (e59_3 ..) (wp_cr (xc_right (d := d + 2) hX hm hr (by decide) fun σ hX hm => ⟨_, rfl, wp_asI0 ?_⟩))
  refine wp_if (fun q => ?_) (fun q => ?_) <;> rw [b2i_0] at q
  · exact bad σ hX (.inr (.inr (.inr (.inl q))))
  have h4 := q
  have key : ¬ (t = 4 ∧ ¬ (0 ≤ act ∧ act ≤ 2)) → wp (E xP59 (zD (d + 5)) 7 [some (.inr (.inr (some (0, 0)))), some (.inr (.inr (some (9, p)))), some (.inr (.inr (some (3, 0)))), some (.inl x), some (.inr (.inl act)), none] [] σ) Q := by
    intro h5
    rw [if_neg (fun q => by rcases q with q | q | q | q | q; exact h1 q; exact h2 q; exact h3 q; exact h4 q; exact h5 q)] at k
    refine wp_eq (e59_7 ..) (wp_if (fun h => ?_) (fun g1 => ?_))
    · rw [m3] at h
      rw [if_pos h] at k
      exact wp_eq (e59_8 ..) (wp_cr (xc_begins (d := d) hX hP hr hC hw hrq hm272 hp fun σ hX => ⟨_, rfl, wp_asI0 (wp_ret (k σ hX))⟩))
    rw [m3] at g1
    rw [if_neg g1] at k
    refine wp_if (fun h => ?_) (fun g2 => ?_)
    · rw [m4] at h
      rw [if_pos h] at k
      exact wp_eq (e59_9 ..) (wp_cr (xc_goes (d := d) hX hP hr hC hw hp fun σ hX => ⟨_, rfl, wp_asI0 (wp_ret (k σ hX))⟩))
    rw [m4] at g2
    rw [if_neg g2] at k
    refine wp_if (fun h => ?_) (fun g3 => ?_)
    · rw [m5] at h
      rw [if_pos h] at k
      exact wp_eq (e59_10 ..) (wp_cr (xc_ends (d := d) hX hP hr hC fun σ hX => ⟨_, rfl, wp_asI0 (wp_ret (k σ hX))⟩))
    rw [m5] at g3
    rw [if_neg g3] at k
    have ht4 : t = 4 := by
      have a1 : 1 ≤ t.toInt := Int64.le_iff_toInt_le.mp (Int64.not_lt.mp h1)
      have a2 : t.toInt ≤ 4 := Int64.le_iff_toInt_le.mp (Int64.not_lt.mp h2)
      have n1 : ¬ t.toInt = 1 := fun e => g1 (i64_of e rfl)
      have n2 : ¬ t.toInt = 2 := fun e => g2 (i64_of e rfl)
      have n3 : ¬ t.toInt = 3 := fun e => g3 (i64_of e rfl)
      exact i64_of (show t.toInt = 4 by omega) rfl
    have hin : 0 ≤ act ∧ act ≤ 2 := Classical.byContradiction fun q => h5 ⟨ht4, q⟩
    have hact3 : act.toInt32 = 0 ∨ act.toInt32 = 1 ∨ act.toInt32 = 2 := by
      have a1 : 0 ≤ act.toInt := Int64.le_iff_toInt_le.mp hin.1
      have a2 : act.toInt ≤ 2 := Int64.le_iff_toInt_le.mp hin.2
      have hc : act.toInt = 0 ∨ act.toInt = 1 ∨ act.toInt = 2 := by omega
      rcases hc with e | e | e
      · rw [i64_of e (show (0 : Int64).toInt = 0 from rfl)]; decide
      · rw [i64_of e (show (1 : Int64).toInt = 1 from rfl)]; decide
      · rw [i64_of e (show (2 : Int64).toInt = 2 from rfl)]; decide
    exact wp_eq (e59_11 ..) (wp_cr (xc_event (d := d + 1) hX hP hr (by omega) hact3 fun σ hX => ⟨_, rfl, wp_asI0 (wp_ret (k σ hX))⟩))
  refine wp_eq (e59_4 ..) (wp_if (fun h => ?_) (fun g4 => ?_))
  · rw [m6] at h
    refine wp_eq (e59_5 ..) (wp_cr (xc_isIn (d := d + 4) fun v hv => ⟨_, hv, wp_asI0 ?_⟩))
    refine wp_if (fun q => ?_) (fun q => ?_) <;> rw [b2i_0] at q
    · exact bad σ hX (.inr (.inr (.inr (.inr ⟨h, q⟩))))
    · exact key fun g => q g.2
  · rw [m6] at g4
    exact key fun g => g4 g.1
