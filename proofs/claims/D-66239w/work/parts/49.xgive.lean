/-! PART 49 (src 49.xgive.src): a peer's questions are given to others -/
set_option maxHeartbeats 400000
/-- questions: those asked were sent, the others are blank -/
def z_QI (A : w_A) : Prop := (∀ i, i < vN A 3 0 → (∃ t, 1 ≤ t ∧ t ≤ vN A 6 0 ∧ vI A 15 i = Int32.ofNat t) ∧ ¬ vI A 17 i = 0 ∧ ¬ vI A 16 i = 0 ∧ ¬ vN A 12 i = 0) ∧ (∀ i, vN A 3 0 ≤ i → vI A 15 i = 0 ∧ vI A 17 i = 0 ∧ vN A 12 i = 0 ∧ vJ A 4 i = 0)
/-- what the peers' functions ask for -/
def z_I (n : Nat) (A : w_A) : Prop := z_B n A ∧ z_LK A ∧ z_QI A
theorem nh_ne {A : w_A} {n : Nat} (hB : z_B n A) (hn : n < 2147483647) : ¬ fn_nh A = 0 := by
  have := hB.2.1
  unfold fn_nh
  rw [io_eq_l (by omega) (by decide)]
  omega
theorem put_QI {A : w_A} {n i b : Nat} (h : z_QI A) (hB : z_B n A) (hn : n < 2147483647) (hi : i < vN A 3 0) : z_QI (fn_put A i b) := by
  have hh := nh_ne hB hn
  have hb := hB.2.1
  obtain ⟨l, e⟩ := put_eq A i b
  have hp : vN (fn_put A i b) 3 0 = vN A 3 0 := put_N A i b (by decide) (by decide) (by decide) 0
  refine ⟨fun j hj => ?_, fun j hj => ?_⟩
  · rw [hp] at hj
    obtain ⟨⟨t, h1, h2, h3⟩, h4, h5, h6⟩ := h.1 j hj
    rw [put_hops, e, vI_send _ _ (by decide), vI_send _ _ (by decide), vI_send _ _ (by decide), vN_send, vI_page, vI_page, vI_page, vN_page, fn_putA]
    simp only [ev_rd, ev_st, aEl, z_w, z_cat, Nat.reduceMod, Nat.reduceDiv, Nat.reduceLeDiff, Nat.reduceLT, Nat.reduceAdd, Nat.reduceMul, Nat.reduceSub, Nat.reduceEqDiff, Int32.reduceLT, Int32.reduceLE, Int32.reduceAdd, Int32.reduceSub, Int32.reduceMul, true_and, and_true, false_and, and_false, true_or, or_true, false_or, or_false, not_true_eq_false, not_false_eq_true, if_true, if_false, reduceIte, ne_eq, and_self, or_self, reduceCtorEq, Option.some.injEq, Prod.mk.injEq]
    by_cases e1 : j = i
    · subst e1
      simp only [if_true]
      refine ⟨⟨t + 1, by omega, by omega, by rw [h3, io_add_l]⟩, ?_⟩
      split
      · exact ⟨hh, hh, by omega⟩
      · exact ⟨h4, hh, by omega⟩
    · simp only [e1, if_false]
      exact ⟨⟨t, h1, by omega, h3⟩, h4, h5, h6⟩
  · rw [hp] at hj
    obtain ⟨h1, h2, h3, h4⟩ := h.2 j hj
    rw [e, vI_send _ _ (by decide), vI_send _ _ (by decide), vN_send, vJ_send, vI_page, vI_page, vN_page, vJ_page, fn_putA]
    simp only [ev_rd, ev_st, aEl, z_w, z_cat, Nat.reduceMod, Nat.reduceDiv, Nat.reduceLeDiff, Nat.reduceLT, Nat.reduceAdd, Nat.reduceMul, Nat.reduceSub, Nat.reduceEqDiff, Int32.reduceLT, Int32.reduceLE, Int32.reduceAdd, Int32.reduceSub, Int32.reduceMul, true_and, and_true, false_and, and_false, true_or, or_true, false_or, or_false, not_true_eq_false, not_false_eq_true, if_true, if_false, reduceIte, ne_eq, and_self, or_self, reduceCtorEq, Option.some.injEq, Prod.mk.injEq, show ¬ j = i by omega]
    exact ⟨h1, h2, h3, h4⟩
theorem put_Inv {A : w_A} {n i b : Nat} (h : z_I n A) (hn : n < 2147483647) (hi : i < vN A 3 0) (hb : b < 4) : z_I (n + 1) (fn_put A i b) := ⟨put_B h.1 i hb, put_LK h.2.1 i b, put_QI h.2.2 h.1 hn hi⟩
theorem res_Inv {A : w_A} {n i : Nat} (h : z_I n A) (hi : i < vN A 3 0) (x : Int64) : z_I n (sJ A 4 i x) := by
  refine ⟨h.1, h.2.1, h.2.2.1, fun j hj => ?_⟩
  have := h.2.2.2 j hj
  simp only [ev_rd, ev_st, aEl, z_w, z_cat, Nat.reduceMod, Nat.reduceDiv, Nat.reduceLeDiff, Nat.reduceLT, Nat.reduceAdd, Nat.reduceMul, Nat.reduceSub, Nat.reduceEqDiff, Int32.reduceLT, Int32.reduceLE, Int32.reduceAdd, Int32.reduceSub, Int32.reduceMul, true_and, and_true, false_and, and_false, true_or, or_true, false_or, or_false, not_true_eq_false, not_false_eq_true, if_true, if_false, reduceIte, ne_eq, and_self, or_self, reduceCtorEq, Option.some.injEq, Prod.mk.injEq, show ¬ j = i from fun e => by have hj : vN A 3 0 ≤ j := hj; omega]
  exact this
theorem us_lt {A : w_A} {n k : Nat} (hB : z_B n A) (h : fn_usable A = some k) : k < 4 := by
  have := (fn_usable_some h).1
  have := hB.1.1
  omega
theorem gstep_Inv {A : w_A} {n p i : Nat} (h : z_I n A) (hn : n < 2147483647) (hi : i < vN A 3 0) : z_I (n + 1) (fn_gstep A p i) := by
  unfold fn_gstep
  split
  · split
    · rename_i b hb
      exact put_Inv h hn hi (us_lt h.1 hb)
    · split
      · exact ⟨z_B_mono (Nat.le_succ n) h.1, h.2⟩
      · have := res_Inv h hi 3002
        exact ⟨z_B_mono (Nat.le_succ n) this.1, this.2⟩
  · exact ⟨z_B_mono (Nat.le_succ n) h.1, h.2⟩
theorem gstep_N (A : w_A) (p i : Nat) {v : Nat} (h1 : v ≠ 6) (h2 : v ≠ 12) (h3 : v ≠ 19) (j : Nat) : vN (fn_gstep A p i) v j = vN A v j := by
  unfold fn_gstep
  split
  · split
    · exact put_N A i _ h1 h2 h3 j
    · split <;> rfl
  · rfl
theorem gstep_I (A : w_A) (p i : Nat) {v : Nat} (h0 : v ≠ 14) (h1 : v ≠ 15) (h2 : v ≠ 16) (h3 : v ≠ 17) (j : Nat) : vI (fn_gstep A p i) v j = vI A v j := by
  unfold fn_gstep
  split
  · split
    · exact put_I A i _ h0 h1 h2 h3 j
    · split <;> rfl
  · rfl
theorem gstep_usable (A : w_A) (p i : Nat) : fn_usable (fn_gstep A p i) = fn_usable A := by
  refine us_cong (fun q => ?_) (gstep_N A p i (by decide) (by decide) (by decide) 0)
  unfold fn_us fn_up
  rw [gstep_I A p i (by decide) (by decide) (by decide) (by decide), gstep_I A p i (by decide) (by decide) (by decide) (by decide)]
theorem gloop_N (p : Nat) {v : Nat} (h1 : v ≠ 6) (h2 : v ≠ 12) (h3 : v ≠ 19) (j : Nat) : ∀ (r i : Nat) (A : w_A), vN (fn_gloop A p r i) v j = vN A v j
  | 0, _, _ => rfl
  | r + 1, i, A => (gloop_N p h1 h2 h3 j r (i + 1) _).trans (gstep_N A p i h1 h2 h3 j)
theorem gloop_I (p : Nat) {v : Nat} (h0 : v ≠ 14) (h1 : v ≠ 15) (h2 : v ≠ 16) (h3 : v ≠ 17) (j : Nat) : ∀ (r i : Nat) (A : w_A), vI (fn_gloop A p r i) v j = vI A v j
  | 0, _, _ => rfl
  | r + 1, i, A => (gloop_I p h0 h1 h2 h3 j r (i + 1) _).trans (gstep_I A p i h0 h1 h2 h3 j)
theorem gloop_Inv (p : Nat) : ∀ (r i n : Nat) (A : w_A), z_I n A → n + r < 2147483648 → i + r ≤ vN A 3 0 → z_I (n + r) (fn_gloop A p r i)
  | 0, _, _, _, h, _, _ => h
  | r + 1, i, n, A, h, hn, hi => by
    have := gloop_Inv p r (i + 1) (n + 1) (fn_gstep A p i) (gstep_Inv h (by omega) (by omega)) (by omega) (by rw [gstep_N A p i (by decide) (by decide) (by decide)]; omega)
    rw [show n + (r + 1) = n + 1 + r by omega]
    exact this
theorem lg0 (x : Int64) : (lg_cmp x 0 = 0) = (x = 0) := by
  unfold lg_cmp
  refine propext ⟨fun h => ?_, fun h => by subst h; decide⟩
  split at h
  · exact absurd h (by decide)
  · split at h
    · assumption
    · exact absurd h (by decide)
theorem xl_give {T : z_St} {d p : Nat} {o : Option Nat} {Q : z_St → Option z_V → Prop} : ∀ (r i n : Nat) (A : w_A) (σ : z_St), w_X T σ A → z_I n A → n + r < 2147483648 → i + r = vN A 3 0 → fn_usable A = o → (∀ σ, w_X T σ (fn_gloop A p r i) → Q σ none) →
    wp (E xP44 (zD (d + 5)) 1 [some (.inr (.inr (some (0, 0)))), some (.inr (.inr (some (9, p)))), some (.inr (.inr (o.map fun q => (9, q)))), some (.inl (Int32.ofNat i)), none] [] σ) Q
  | 0, i, n, A, σ, hX, hI, hn, hi, ho, k => by
    have hb := hI.1.1
    refine wp_eq (e44_1 ..) (wp_if (fun hc => ?_) (fun hc => ?_)) <;> rw [rx_ASKS hX, io_le (by omega) (by omega)] at hc
    · exact wp_eq (e44_10 ..) (wp_ret (k _ hX))
    · omega
  | r + 1, i, n, A, σ, hX, hI, hn, hi, ho, k => by
    have hb := hI.1.1
    have hi64 : i < 64 := by omega
    have step : ∀ σ, w_X T σ (fn_gstep A p i) → wp (E xP44 (zD (d + 5)) 9 [some (.inr (.inr (some (0, 0)))), some (.inr (.inr (some (9, p)))), some (.inr (.inr (o.map fun q => (9, q)))), some (.inl (Int32.ofNat i)), none] [] σ) Q := by
      intro σ hX
      refine wp_eq (e44_9 ..) ?_
      rw [io_add_l]
      refine xl_give r (i + 1) (n + 1) (fn_gstep A p i) σ hX (gstep_Inv hI (by omega) (by omega)) (by omega) ?_ ?_ k
      · rw [gstep_N A p i (by decide) (by decide) (by decide)]; omega
      · rw [gstep_usable]; exact ho
    refine wp_eq (e44_1 ..) (wp_if (fun hc => ?_) (fun hc => ?_)) <;> rw [rx_ASKS hX, io_le (by omega) (by omega)] at hc
    · omega
    · have hq := rx_asks hX i hi64
      refine wp_eq (e44_2 ..) (wp_dr (rx_p0_13 hX) (wp_gd (by rw [aty_5244952]; decide) (wp_gd ?_ ?_)))
      · rw [alen_5244952]; exact zin_io (by omega) (by omega)
      rw [io_nat (by omega)]
      refine wp_dr hq (wp_gd rfl ?_)
      dsimp only
      refine wp_gd ⟨by rw [rx_QPEER hX]; exact z_dyn_per _, z_dyn_some _ _ (by decide)⟩ ?_
      refine wp_if (fun hc => ?_) (fun hc => ?_) <;> rw [rx_QPEER hX] at hc
      · have hc : vN A 12 i = p + 1 := by
          unfold z_per at hc
          split at hc
          · cases hc
          · cases hc; omega
        rw [hq]
        refine wp_eq (e44_3 ..) (wp_dr rfl (wp_gd rfl ?_))
        dsimp only
        refine wp_if (fun hr => ?_) (fun hr => ?_) <;> rw [rx_QRES hX, lg0] at hr
        · refine wp_eq (e44_5 ..) ?_
          match o, ho with
          | none, ho =>
            refine wp_if (fun _ => ?_) (fun h => absurd rfl h)
            refine wp_eq (e44_7 ..) (wp_dr rfl (wp_gd rfl ?_))
            dsimp only
            refine wp_if (fun hs => ?_) (fun hs => ?_) <;> rw [rx_STAT hX] at hs
            · refine step σ (X_cv hX ?_)
              unfold fn_gstep
              rw [if_pos ⟨hc, hr⟩, ho]
              exact (if_pos hs).symm
            · refine wp_eq (e44_8 ..) (wp_dr rfl (wp_gd rfl (wp_swX (wx_QRES hX _ _) fun σ hX => step σ (X_cv hX ?_))))
              unfold fn_gstep
              rw [if_pos ⟨hc, hr⟩, ho]
              exact (if_neg hs).symm
          | some b, ho =>
            refine wp_if (fun h => by cases h) (fun _ => ?_)
            have hu := (fn_usable_some ho).2
            obtain ⟨⟨t, h1, h2, h3⟩, -⟩ := hI.2.2.1 i (by omega)
            have ht := hI.1.2.1
            refine wp_eq (e44_6 ..) (wp_cv (xc_put_ hX hI.1 hI.2.1 hi64 hu.1 ?_ fun σ hX => ⟨rfl, step σ (X_cv hX ?_)⟩))
            · rw [if_neg (by rw [h3, io_eq_l (by omega) (by decide)]; omega)]
              decide
            · unfold fn_gstep
              rw [if_pos ⟨hc, hr⟩, ho]
        · refine wp_eq (e44_4 ..) (step σ (X_cv hX ?_))
          unfold fn_gstep
          exact (if_neg fun h => hr h.2).symm
      · refine step σ (X_cv hX ?_)
        unfold fn_gstep
        refine (if_neg fun h => hc ?_).symm
        rw [h.1]
        rfl
theorem giveOver_Inv {A : w_A} {n : Nat} (h : z_I n A) (p : Nat) (hn : n + 64 < 2147483648) : z_I (n + 64) (fn_giveOver A p) := by
  have hb := h.1.1
  have h1 : z_I n (sI A 3 p (vI A 3 p + 1)) := ⟨by rw [B_sI _ _ (by decide)]; exact h.1, h.2⟩
  have := gloop_Inv p (vN A 3 0) 0 n _ h1 (by omega) (by show 0 + vN A 3 0 ≤ vN A 3 0; omega)
  exact ⟨z_B_mono (by omega) this.1, this.2⟩
theorem xc_giveOver {T σ : z_St} {A : w_A} (hX : w_X T σ A) {d p n : Nat} (hI : z_I n A) (hn : n + 64 < 2147483648) {Q : z_St → Option z_V → Prop} (k : ∀ σ, w_X T σ (fn_giveOver A p) → Q σ none) : wp (zD (d + 6) 44 [.inr (.inr (some (0, 0))), .inr (.inr (some (9, p)))] σ) Q := by
  have hb := hI.1.1
  have h1 : z_I n (sI A 3 p (vI A 3 p + 1)) := ⟨by rw [B_sI _ _ (by decide)]; exact hI.1, hI.2⟩
  refine wp_eq (c44 ..) (wp_eq (e44_0 ..) (wp_dr rfl (wp_gd rfl (wp_dr rfl (wp_gd rfl ?_)))))
  dsimp only
  rw [rx_OVER hX]
  refine wp_swX (wx_OVER hX _ _) fun σ hX => wp_cr (xc_usable hX h1.1 fun σ v hX hv => ⟨_, hv, ?_⟩)
  rw [asR_mk]
  exact xl_give _ 0 n _ σ hX h1 (by show n + vN A 3 0 < 2147483648; omega) (Nat.zero_add _) rfl k
