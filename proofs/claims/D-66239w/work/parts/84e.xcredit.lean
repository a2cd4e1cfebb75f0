/-! PART 84e (src 84e.xcredit.src): the component's answers to credits -/
set_option maxHeartbeats 800000
/-- what a credit leaves alone -/
def z_df (A D : w_A) : Prop :=
  (∀ v i, v ≠ 20 → v ≠ 21 → v ≠ 19 → vI D v i = vI A v i)
  ∧ (∀ v i, v ≠ 4 → v ≠ 5 → v ≠ 6 → vL D v i = vL A v i)
  ∧ (∀ v i, v ≠ 2 → v ≠ 13 → v ≠ 16 → v ≠ 17 → vN D v i = vN A v i)
  ∧ vP D = vP A
theorem df_refl (A : w_A) : z_df A A := ⟨fun _ _ _ _ _ => rfl, fun _ _ _ _ _ => rfl, fun _ _ _ _ _ _ => rfl, rfl⟩
theorem df_trans {A B C : w_A} (h : z_df A B) (g : z_df B C) : z_df A C := ⟨fun v i a b c => (g.1 v i a b c).trans (h.1 v i a b c), fun v i a b c => (g.2.1 v i a b c).trans (h.2.1 v i a b c), fun v i a b c d => (g.2.2.1 v i a b c d).trans (h.2.2.1 v i a b c d), g.2.2.2.trans h.2.2.2⟩
theorem df_I {A B : w_A} (h : z_df A B) {w : Nat} (hw : w = 20 ∨ w = 21 ∨ w = 19) (j : Nat) (x : Int32) : z_df A (sI B w j x) := df_trans h ⟨fun v i a b c => by rw [vI_sI, if_neg (fun g => by have := g.1; omega)], fun _ _ _ _ _ => rfl, fun _ _ _ _ _ _ => rfl, rfl⟩
theorem df_J {A B : w_A} (h : z_df A B) (w j : Nat) (x : Int64) : z_df A (sJ B w j x) := df_trans h ⟨fun _ _ _ _ _ => rfl, fun _ _ _ _ _ => rfl, fun _ _ _ _ _ _ => rfl, rfl⟩
theorem df_L {A B : w_A} (h : z_df A B) {w : Nat} (hw : w = 4 ∨ w = 5 ∨ w = 6) (j : Nat) (x : List Int32) : z_df A (sL B w j x) := df_trans h ⟨fun _ _ _ _ _ => rfl, fun v i a b c => by rw [vL_sL, if_neg (fun g => by have := g.1; omega)], fun _ _ _ _ _ _ => rfl, rfl⟩
theorem df_N {A B : w_A} (h : z_df A B) {w : Nat} (hw : w = 2 ∨ w = 13 ∨ w = 16 ∨ w = 17) (j x : Nat) : z_df A (sN B w j x) := df_trans h ⟨fun _ _ _ _ _ => rfl, fun _ _ _ _ _ => rfl, fun v i a b c d => by rw [vN_sN, if_neg (fun g => by have := g.1; omega)], rfl⟩
theorem df_settle (A : w_A) (s : Nat) (u : Int64) : z_df A (fn_settle A s u) := df_J (df_J (df_J (df_J (df_refl A) _ _ _) _ _ _) _ _ _) _ _ _
theorem df_note {A B : w_A} (h : z_df A B) (P : w_P) (p s : Nat) : z_df A (fn_note B P p s) := df_I (df_J (df_L (df_L h (by decide) _ _) (by decide) _ _) _ _ _) (by decide) _ _
theorem df_grant {A B : w_A} (h : z_df A B) (P : w_P) (s : Nat) : z_df A (fn_grant B P s) := df_N (df_I (df_J (df_J h _ _ _) _ _ _) (by decide) _ _) (by decide) _ _
theorem df_remove {A B : w_A} (h : z_df A B) (s : Nat) : z_df A (fn_remove B s) := by
  refine df_trans h ⟨fun v i a b c => ?_, fun v i a b c => ?_, fun v i a b c d => ?_, rfl⟩
  · show vI (tI (tI _ 20 _) 21 _) v i = _
    rw [vI_tI, if_neg b, vI_tI, if_neg a]
    rfl
  · show vL (tL (tL (tL B 4 _) 5 _) 6 _) v i = _
    rw [vL_tL, if_neg c, vL_tL, if_neg b, vL_tL, if_neg a]
  · show vN (sN (tN (tN _ 13 _) 17 _) 2 0 _) v i = _
    rw [vN_sN, if_neg (fun g => a g.1), vN_tN, if_neg d, vN_tN, if_neg b]
    rfl
/-- what a credit may have granted -/
def z_dg (A D : w_A) : Prop := (vN A 2 0 ≤ 16 → vN D 2 0 ≤ 16) ∧ (vN D 16 0 = vN A 16 0 ∨ ∃ s, s < vN D 2 0 ∧ s < 16 ∧ vN D 16 0 = s + 1)
theorem decide_df (A : w_A) (P : w_P) (p : Nat) : z_df A (fn_decide A P p).1 ∧ (vN A 2 0 ≤ 16 → z_dg A (fn_decide A P p).1) := by
  have triv : z_df A A ∧ (vN A 2 0 ≤ 16 → z_dg A A) := ⟨df_refl A, fun h => ⟨id, .inl rfl⟩⟩
  unfold fn_decide
  dsimp only
  split
  · exact triv
  split
  · unfold fn_begins
    split
    · exact triv
    · split
      · exact triv
      · rename_i hs
        split
        · exact triv
        · refine ⟨df_grant (df_note (df_J (df_N (df_L (df_N (df_refl A) (by decide) _ _) (by decide) _ _) (by decide) _ _) _ _ _) _ _ _) _ _, fun hl => ⟨fun _ => ?_, .inr ⟨vN A 2 0, ?_, ?_, rfl⟩⟩⟩
          · show vN A 2 0 + 1 ≤ 16
            have : ¬ vN A 2 0 = 16 := fun e => hs (.inr e)
            omega
          · show vN A 2 0 < vN A 2 0 + 1
            omega
          · have : ¬ vN A 2 0 = 16 := fun e => hs (.inr e)
            omega
  split
  · unfold fn_goes
    split
    · exact triv
    · rename_i s hs
      split
      · exact triv
      · dsimp only
        have hs := sess_lt hs
        split
        · refine ⟨df_grant (df_note (df_settle A _ _) _ _ _) _ _, fun hl => ⟨fun h => h, .inr ⟨s, hs, by omega, rfl⟩⟩⟩
        · exact ⟨df_I (df_note (df_settle A _ _) _ _ _) (by decide) _ _, fun hl => ⟨fun h => h, .inl rfl⟩⟩
  split
  · unfold fn_ends
    split
    · exact triv
    · split
      · exact triv
      · refine ⟨df_remove (df_settle A _ _) _, fun hl => ⟨fun h => ?_, .inl rfl⟩⟩
        show vN A 2 0 - 1 ≤ 16
        omega
  · unfold fn_event
    split
    · exact triv
    · dsimp only
      generalize (if fn_units (vI A 64) P 437 < 0 then (0 : Int64) else fn_units (vI A 64) P 437) = w
      split
      · exact ⟨df_I (df_refl A) (by decide) _ _, fun hl => ⟨fun h => h, .inl rfl⟩⟩
      · split
        · split
          · exact triv
          · exact ⟨df_J (df_J (df_refl A) _ _ _) _ _ _, fun hl => ⟨fun h => h, .inl rfl⟩⟩
        · split
          · exact triv
          · exact ⟨df_J (df_J (df_refl A) _ _ _) _ _ _, fun hl => ⟨fun h => h, .inl rfl⟩⟩
/-! an answer is kept -/
theorem keep_eq (A : w_A) (k y now : Nat) (l0 m0 t l : List Int32) (x e : Int32) : sL (sN (sI (sL (sN (sN (sI (sL (sL A 11 k l0) 10 k m0) 18 k x) 15 k y) 4 0 (k + 1)) 11 k t) 18 k e) 15 k now) 10 k l = sN (sN (sI (sL (sL A 11 k t) 10 k l) 18 k e) 15 k now) 4 0 (k + 1) := by
  refine A_ext (fun v i => ?_) (fun v i => ?_) (fun v i => ?_) (fun v i => ?_) rfl
  · simp only [ev_rd, ev_st, aEl, z_w, z_cat, Nat.reduceMod, Nat.reduceDiv, Nat.reduceLeDiff, Nat.reduceLT, Nat.reduceAdd, Nat.reduceMul, Nat.reduceSub, Nat.reduceEqDiff, Int32.reduceLT, Int32.reduceLE, Int32.reduceAdd, Int32.reduceSub, Int32.reduceMul, true_and, and_true, false_and, and_false, true_or, or_true, false_or, or_false, not_true_eq_false, not_false_eq_true, if_true, if_false, reduceIte, ne_eq, and_self, or_self, reduceCtorEq, Option.some.injEq, Prod.mk.injEq, vI_sI]
    by_cases h1 : v = 18 ∧ i = k
    · obtain ⟨rfl, rfl⟩ := h1; simp only [ev_rd, ev_st, aEl, z_w, z_cat, Nat.reduceMod, Nat.reduceDiv, Nat.reduceLeDiff, Nat.reduceLT, Nat.reduceAdd, Nat.reduceMul, Nat.reduceSub, Nat.reduceEqDiff, Int32.reduceLT, Int32.reduceLE, Int32.reduceAdd, Int32.reduceSub, Int32.reduceMul, true_and, and_true, false_and, and_false, true_or, or_true, false_or, or_false, not_true_eq_false, not_false_eq_true, if_true, if_false, reduceIte, ne_eq, and_self, or_self, reduceCtorEq, Option.some.injEq, Prod.mk.injEq] <;> rfl
    · simp only [h1, ev_rd, ev_st, aEl, z_w, z_cat, Nat.reduceMod, Nat.reduceDiv, Nat.reduceLeDiff, Nat.reduceLT, Nat.reduceAdd, Nat.reduceMul, Nat.reduceSub, Nat.reduceEqDiff, Int32.reduceLT, Int32.reduceLE, Int32.reduceAdd, Int32.reduceSub, Int32.reduceMul, true_and, and_true, false_and, and_false, true_or, or_true, false_or, or_false, not_true_eq_false, not_false_eq_true, if_true, if_false, reduceIte, ne_eq, and_self, or_self, reduceCtorEq, Option.some.injEq, Prod.mk.injEq]
  · rfl
  · simp only [ev_rd, ev_st, aEl, z_w, z_cat, Nat.reduceMod, Nat.reduceDiv, Nat.reduceLeDiff, Nat.reduceLT, Nat.reduceAdd, Nat.reduceMul, Nat.reduceSub, Nat.reduceEqDiff, Int32.reduceLT, Int32.reduceLE, Int32.reduceAdd, Int32.reduceSub, Int32.reduceMul, true_and, and_true, false_and, and_false, true_or, or_true, false_or, or_false, not_true_eq_false, not_false_eq_true, if_true, if_false, reduceIte, ne_eq, and_self, or_self, reduceCtorEq, Option.some.injEq, Prod.mk.injEq, vN_sN]
    by_cases h1 : v = 15 ∧ i = k
    · obtain ⟨rfl, rfl⟩ := h1; simp only [ev_rd, ev_st, aEl, z_w, z_cat, Nat.reduceMod, Nat.reduceDiv, Nat.reduceLeDiff, Nat.reduceLT, Nat.reduceAdd, Nat.reduceMul, Nat.reduceSub, Nat.reduceEqDiff, Int32.reduceLT, Int32.reduceLE, Int32.reduceAdd, Int32.reduceSub, Int32.reduceMul, true_and, and_true, false_and, and_false, true_or, or_true, false_or, or_false, not_true_eq_false, not_false_eq_true, if_true, if_false, reduceIte, ne_eq, and_self, or_self, reduceCtorEq, Option.some.injEq, Prod.mk.injEq] <;> rfl
    · simp only [h1, ev_rd, ev_st, aEl, z_w, z_cat, Nat.reduceMod, Nat.reduceDiv, Nat.reduceLeDiff, Nat.reduceLT, Nat.reduceAdd, Nat.reduceMul, Nat.reduceSub, Nat.reduceEqDiff, Int32.reduceLT, Int32.reduceLE, Int32.reduceAdd, Int32.reduceSub, Int32.reduceMul, true_and, and_true, false_and, and_false, true_or, or_true, false_or, or_false, not_true_eq_false, not_false_eq_true, if_true, if_false, reduceIte, ne_eq, and_self, or_self, reduceCtorEq, Option.some.injEq, Prod.mk.injEq]
  · simp only [ev_rd, ev_st, aEl, z_w, z_cat, Nat.reduceMod, Nat.reduceDiv, Nat.reduceLeDiff, Nat.reduceLT, Nat.reduceAdd, Nat.reduceMul, Nat.reduceSub, Nat.reduceEqDiff, Int32.reduceLT, Int32.reduceLE, Int32.reduceAdd, Int32.reduceSub, Int32.reduceMul, true_and, and_true, false_and, and_false, true_or, or_true, false_or, or_false, not_true_eq_false, not_false_eq_true, if_true, if_false, reduceIte, ne_eq, and_self, or_self, reduceCtorEq, Option.some.injEq, Prod.mk.injEq, vL_sL]
    by_cases h1 : v = 10 ∧ i = k
    · obtain ⟨rfl, rfl⟩ := h1; simp only [ev_rd, ev_st, aEl, z_w, z_cat, Nat.reduceMod, Nat.reduceDiv, Nat.reduceLeDiff, Nat.reduceLT, Nat.reduceAdd, Nat.reduceMul, Nat.reduceSub, Nat.reduceEqDiff, Int32.reduceLT, Int32.reduceLE, Int32.reduceAdd, Int32.reduceSub, Int32.reduceMul, true_and, and_true, false_and, and_false, true_or, or_true, false_or, or_false, not_true_eq_false, not_false_eq_true, if_true, if_false, reduceIte, ne_eq, and_self, or_self, reduceCtorEq, Option.some.injEq, Prod.mk.injEq] <;> rfl
    · by_cases h2 : v = 11 ∧ i = k
      · obtain ⟨rfl, rfl⟩ := h2; simp only [ev_rd, ev_st, aEl, z_w, z_cat, Nat.reduceMod, Nat.reduceDiv, Nat.reduceLeDiff, Nat.reduceLT, Nat.reduceAdd, Nat.reduceMul, Nat.reduceSub, Nat.reduceEqDiff, Int32.reduceLT, Int32.reduceLE, Int32.reduceAdd, Int32.reduceSub, Int32.reduceMul, true_and, and_true, false_and, and_false, true_or, or_true, false_or, or_false, not_true_eq_false, not_false_eq_true, if_true, if_false, reduceIte, ne_eq, and_self, or_self, reduceCtorEq, Option.some.injEq, Prod.mk.injEq] <;> rfl
      · simp only [h1, h2, ev_rd, ev_st, aEl, z_w, z_cat, Nat.reduceMod, Nat.reduceDiv, Nat.reduceLeDiff, Nat.reduceLT, Nat.reduceAdd, Nat.reduceMul, Nat.reduceSub, Nat.reduceEqDiff, Int32.reduceLT, Int32.reduceLE, Int32.reduceAdd, Int32.reduceSub, Int32.reduceMul, true_and, and_true, false_and, and_false, true_or, or_true, false_or, or_false, not_true_eq_false, not_false_eq_true, if_true, if_false, reduceIte, ne_eq, and_self, or_self, reduceCtorEq, Option.some.injEq, Prod.mk.injEq]
theorem pg_self (A : w_A) : fn_page A (vL A 12 0) = A := sL_id A rfl
theorem xc_keep {T σ : z_St} {A : w_A} (hX : w_X T σ A) {P : w_P} (hP : vP A = some P) (hr : z_rP (vI A 64) P) (hw : pW P = 0) (hk : vN A 4 0 ≤ 32) (hse : vN A 2 0 ≤ 16) (h20 : 20 ≤ (vL A 12 0).length) (h300 : (vL A 12 0).length ≤ 300) {d : Nat} {Q : z_St → Option z_V → Prop} (k : ∀ σ, w_X T σ (fn_keep A P) → Q σ none) : wp (zD (d + 3) 52 [.inr (.inr (some (0, 0))), .inr (.inr (some (3, 0)))] σ) Q := by
  unfold fn_keep at k
  have key : ∀ (B : w_A) (σ : z_St), w_X T σ B → vP B = some P → z_rP (vI B 64) P → vN B 4 0 < 32 → vN B 2 0 ≤ 16 → vL B 12 0 = vL A 12 0 → vI B 64 = vI A 64 → vN B 5 0 = vN A 5 0 → (∀ σ, w_X T σ (sN (sN (sI (sL (sL B 11 (vN B 4 0) (fn_taken (vI A 64) P 264)) 10 (vN B 4 0) (vL A 12 0)) 18 (vN B 4 0) (pE P)) 15 (vN B 4 0) (vN A 5 0)) 4 0 (vN B 4 0 + 1)) → Q σ none) →
      wp (E xP52 (zD (d + 2)) 2 [some (.inr (.inr (some (0, 0)))), some (.inr (.inr (some (3, 0)))), none] [] σ) Q := by
    intro B σ hX hP hr hk hse hPG hIN hNW kk
    have hho := rP_host hr hw
    generalize hj : vN B 4 0 = j at *
    obtain ⟨x, y, l0, m0, hX1⟩ := X_KEPTSi hX hj hk
    refine wp_eq (e52_2 ..) ?_
    rw [rx_KEPTS hX, hj, io_add_l]
    refine wp_sw (wp_dr (rx_p0_15 hX) (wp_gd (by rw [aty_6292505]; decide) (wp_gd ?_ ?_)))
    · rw [alen_6292505]; exact zin_io (by omega) (by decide)
    dsimp only
    rw [io_nat (by omega)]
    have ko := rx_kobj hX1 (s := j) (by omega)
    generalize wI σ 0 16 0 (Int32.ofNat (j + 1)) = σ at *
    have ko : gR σ 6292505 0 j = some (7, vN B 18 j) := ko
    rw [ko]
    refine wp_dr rfl (wp_gd rfl (wp_dr rfl (wp_gd rfl ?_)))
    dsimp only
    rw [show gR σ 7 0 (vN B 18 j) = some (1, 244 + vN B 18 j) from rx_p7_0 hX1 _]
    refine wp_cv (xc_take_ (d := d) hX1 (rx_msg hX1 (P := P) hP) hr (by decide) hho.1 fun f m hmm hf => ⟨rfl, ?_⟩)
    subst hmm
    have hX2 : w_X T (x_tw σ (244 + vN B 18 j) (fn_taken (vI (sN (sN (sI (sL (sL B 11 j l0) 10 j m0) 18 j x) 15 j y) 4 0 (j + 1)) 64) P 264).length f) _ := wx_KHOST hX1 (s := j) (show j < j + 1 by omega) (show j + 1 ≤ 32 by omega) hse hf
    refine wp_dr rfl (wp_gd rfl (wp_dr rfl (wp_gd rfl ?_)))
    have hm2 := rx_msg hX2 (P := P) hP
    dsimp only
    rw [hm2.2.2.2.2.2.1]
    refine wp_swX (wx_KEND hX2 (s := j) (show j < j + 1 by omega) (show j + 1 ≤ 32 by omega) _) fun σ hX => wp_dr rfl (wp_gd rfl ?_)
    rw [rx_NOW hX]
    refine wp_swX (wx_KTIME hX (s := j) (show j < j + 1 by omega) (show j + 1 ≤ 32 by omega) _) fun σ hX => wp_dr (rx_p0_4 hX) (wp_gd rfl ?_)
    have hX : w_X T σ (sN (sI (sL (sN (sN (sI (sL (sL B 11 j l0) 10 j m0) 18 j x) 15 j y) 4 0 (j + 1)) 11 j (fn_taken (vI B 64) P 264)) 18 j (pE P)) 15 j (vN B 5 0)) := hX
    have hpg : ∀ X : w_A, vL X 12 0 = vL A 12 0 → X = fn_page X (vL A 12 0) := fun X h => by rw [← h]; exact (pg_self X).symm
    refine wp_cv (xc_end (A := (sN (sI (sL (sN (sN (sI (sL (sL B 11 j l0) 10 j m0) 18 j x) 15 j y) 4 0 (j + 1)) 11 j (fn_taken (vI B 64) P 264)) 18 j (pE P)) 15 j (vN B 5 0))) (l := vL A 12 0) (X_cv hX (hpg _ hPG)) (by omega) (by omega) fun σ hX hcells => ⟨rfl, ?_⟩)
    refine wp_dr (rx_p0_4 hX) (wp_gd rfl (wp_dr rfl (wp_gd rfl ?_)))
    dsimp only
    rw [rx_PG hX]
    have g04 : ∀ x, gR (wI σ 7 4 (vN B 18 j) x) 0 4 0 = some (2, 0) := fun x => by
      have := rx_p0_4 hX
      exact this
    have g73 : ∀ x, gR (wI σ 7 4 (vN B 18 j) x) 7 3 (vN B 18 j) = some (72361361, vN B 18 j) := fun x => by
      have := rx_p7_3 hX (vN B 18 j)
      exact this
    have g20 : ∀ x, gR (wI σ 7 4 (vN B 18 j) x) 2 0 0 = some (79714193, 0) := fun x => by
      have := rx_p2_0 hX
      exact this
    refine wp_sw (wp_dr (g04 _) (wp_gd rfl (wp_dr rfl (wp_gd rfl (wp_dr rfl (wp_gd rfl (wp_dr (g73 _) (wp_dr (g20 _) (wp_gd ⟨aty_79714193, aty_72361361⟩ ?_)))))))))
    have e4 : gI (wI σ 7 4 (vN B 18 j) (Int32.ofNat (vL A 12 0).length)) 7 4 (vN B 18 j) = Int32.ofNat (vL A 12 0).length := by rw [gI_wI, if_pos ⟨rfl, rfl, rfl⟩]
    dsimp only
    rw [e4]
    refine wp_gd ?_ (wp_sw (wp_ret (kk _ ?_)))
    · have a1 := alen_79714193
      have a2 := alen_72361361
      refine ⟨by decide, by decide, io_neg (by omega), ?_, ?_⟩
      · rw [io_nat (by omega), show (0 : Int32).toNatClampNeg = 0 from rfl]; show 0 + _ ≤ aLen 79714193; rw [a1]; omega
      · rw [io_nat (by omega), show (0 : Int32).toNatClampNeg = 0 from rfl]; show 0 + _ ≤ aLen 72361361; rw [a2]; omega
    · rw [io_nat (by omega), show (0 : Int32).toNatClampNeg = 0 from rfl]
      have hX9 := wx_KCELLS hX (s := j) (show j < j + 1 by omega) (show j + 1 ≤ 32 by omega) (m := vL A 12 0) (f := va_cpy (gI (wI σ 7 4 (vN B 18 j) (Int32.ofNat (vL A 12 0).length)) 79714193 0) (gI (wI σ 7 4 (vN B 18 j) (Int32.ofNat (vL A 12 0).length)) 72361361 (vN B 18 j)) 0 0 (vL A 12 0).length) (fun i hi hne => by
        unfold va_cpy
        rw [if_pos (by omega), Nat.sub_zero, Nat.zero_add]
        show gI σ 79714193 0 i = _
        have hc := hcells i (by rw [fn_fix_len (by omega)]; exact hi)
        rw [hc, fn_fix_get (by omega), if_neg (by omega), if_neg (by omega), if_neg (by omega)])
      refine X_cv hX9 ?_
      rw [← hpg (sN (sI (sL (sN (sN (sI (sL (sL B 11 j l0) 10 j m0) 18 j x) 15 j y) 4 0 (j + 1)) 11 j (fn_taken (vI B 64) P 264)) 18 j (pE P)) 15 j (vN B 5 0)) hPG, ← keep_eq B j y (vN A 5 0) l0 m0 (fn_taken (vI A 64) P 264) (vL A 12 0) x (pE P), hIN, hNW]
  refine wp_eq (c52 ..) (wp_eq (e52_0 ..) (wp_if (fun h => ?_) (fun h => ?_))) <;> rw [rx_KEPTS hX, io_eq_l (by omega) (by decide)] at h
  · have h : vN A 4 0 = 32 := h
    rw [if_pos h] at k
    refine wp_eq (e52_1 ..) (wp_cv (xc_drop1 (d := d + 1) hX (by omega) hk fun σ hX => ⟨rfl, ?_⟩))
    exact key (fn_drop1 A) σ hX hP hr (by rw [drop1_KEPTS]; omega) hse rfl rfl rfl k
  · have h : ¬ vN A 4 0 = 32 := h
    rw [if_neg h] at k
    exact key A σ hX hP hr (by omega) hse rfl rfl rfl k
/-! an answer goes again -/
theorem x_PGk {T σ : z_St} {A : w_A} (h : w_X T σ A) {f : Nat → Int32} (m : List Int32) (hf : ∀ j, (hj : j < m.length) → ¬ (1 ≤ j ∧ j ≤ 3) → f j = m[j]) : w_X T (wI (rI σ 79714193 0 f) 2 1 0 (Int32.ofNat m.length)) (fn_page A m) := by
  obtain ⟨hT, hA, hB, hC, hD, hE, hF, hG, hH, hI, hJ, hK, hL, hM, hN⟩ := h
  refine ⟨x_T_wI (x_T_rI hT (z_isM_dec _ rfl)) (z_isM_dec _ rfl), hA, hB, hC, hD, hE, hF, hG, hH, hI, hJ, hK, ⟨rfl, fun j hj hne => ?_⟩, hM, hN⟩
  show gI (rI σ 79714193 0 f) 79714193 0 j = m[j]
  rw [hI_rI, if_pos ⟨rfl, rfl⟩]
  exact hf j hj hne
theorem again_set {l : List Int32} (h : 20 ≤ l.length) (x : Int32) : (((l.set 12 (by8 x 3)).set 13 (by8 x 2)).set 14 (by8 x 1)).set 15 (by8 x 0) = fn_again l x := by
  unfold fn_again
  match l, h with
  | a0 :: a1 :: a2 :: a3 :: a4 :: a5 :: a6 :: a7 :: a8 :: a9 :: a10 :: a11 :: a12 :: a13 :: a14 :: a15 :: l, _ => rfl
theorem again_len {l : List Int32} (h : 20 ≤ l.length) (x : Int32) : (fn_again l x).length = l.length := by
  rw [← again_set h]
  simp only [List.length_set]
theorem again_by {l : List Int32} (h : z_by l) (x : Int32) : z_by (fn_again l x) := z_by_app (z_by_app (z_by_take h _) (b4_by _)) (z_by_drop h _)
theorem x_set12 (v : Int64) (σ : z_St) : x_sets 12 v 4 4 0 σ = wI (wI (wI (wI σ 79714193 0 12 (byJ v 3)) 79714193 0 13 (byJ v 2)) 79714193 0 14 (byJ v 1)) 79714193 0 15 (byJ v 0) := by
  rw [x_sets, x_sets, x_sets, x_sets, x_sets]
  rfl
theorem kept_lt {A : w_A} {P : w_P} {k : Nat} (h : fn_kept A P = some k) : k < vN A 4 0 := (fn_first_some h).1
theorem xc_credit {T σ : z_St} {A : w_A} (hX : w_X T σ A) {P : w_P} (hP : vP A = some P) (hr : z_rP (vI A 64) P) {n p c : Nat} (hC : z_CB n A) (hT : z_KT A) (hw : pW P = 0) (hrq : fn_req P) (hm272 : pM P = 272) (hp : p < vN A 0 0) (hc1 : 1 ≤ c) (hc : c ≤ 8) {d : Nat} {Q : z_St → Option z_V → Prop} (k : ∀ σ, w_X T σ (fn_credit A c p P) → Q σ none) : wp (zD (d + 7) 53 [.inr (.inr (some (0, 0))), .inr (.inr (some (9, p))), .inr (.inr (some (4, c))), .inr (.inr (some (3, 0)))] σ) Q := by
  obtain ⟨hB, hSN, hSA, hG⟩ := hC
  unfold fn_credit at k
  refine wp_eq (c53 ..) (wp_eq (e53_0 ..) (wp_cr (xc_keptFor (d := d + 3) hX hP hr hB hT fun σ hX => ⟨_, rfl, wp_asR0 ?_⟩)))
  have hBB : z_B n (fn_stale A) := stl_B _ _ hB
  have hPB : vP (fn_stale A) = some P := (stl_P _ _).trans hP
  have eIN : vI (fn_stale A) 64 = vI A 64 := funext fun i => stl_I (by decide) i _ _
  have hrB : z_rP (vI (fn_stale A) 64) P := by rw [eIN]; exact hr
  have hN : ∀ {v : Nat}, v ≠ 4 → v ≠ 15 → v ≠ 18 → ∀ i, vN (fn_stale A) v i = vN A v i := fun h1 h2 h3 i => stl_N h1 h2 h3 i _ _
  have hCB : z_CB n (fn_stale A) := by
    refine ⟨hBB, fun r hr => ?_, fun s hs => ?_, fun r hr => ?_⟩
    · rw [hN (by decide) (by decide) (by decide)] at hr
      unfold fn_stale
      rw [stl_L (by decide) (by decide), stl_L (by decide) (by decide), stl_L (by decide) (by decide)]
      exact hSN r hr
    · rw [hN (by decide) (by decide) (by decide)] at hs ⊢
      exact hSA s hs
    · rw [hN (by decide) (by decide) (by decide)]
      exact hG r hr
  have hpB : p < vN (fn_stale A) 0 0 := by rw [hN (by decide) (by decide) (by decide)]; exact hp
  dsimp only at k
  generalize fn_stale A = B at *
  cases hk : fn_kept B P with
  | some i =>
    rw [hk] at k
    dsimp only at k
    have hi := kept_lt hk
    have hb := hBB.1
    have hkc := hBB.2.2.2.2.2.2.2.2.2.2.2.1 i hi
    obtain ⟨q1, q2, q3, q4, q5⟩ := (rx_K hX).2 i hi
    refine wp_if (fun q => absurd q (by simp)) (fun _ => ?_)
    refine wp_eq (e53_1 ..) (wp_dr rfl (wp_gd rfl (wp_dr (rx_p0_4 hX) (wp_gd rfl (wp_dr rfl (wp_gd rfl (wp_dr (rx_p2_0 hX) (wp_dr (rx_p7_3 hX _) (wp_gd ⟨aty_72361361, aty_79714193⟩ ?_)))))))))
    dsimp only
    rw [q4]
    have hp04 : ∀ f, gR (rI σ 79714193 0 f) 0 4 0 = some (2, 0) := fun f => by
      have := rx_p0_4 hX
      exact this
    refine wp_gd ?_ (wp_sw (wp_dr rfl (wp_gd rfl (wp_dr (hp04 _) (wp_gd rfl ?_)))))
    · have a1 := alen_79714193
      have a2 := alen_72361361
      refine ⟨by decide, by decide, io_neg (by omega), ?_, ?_⟩
      · rw [io_nat (by omega), show (0 : Int32).toNatClampNeg = 0 from rfl]; show 0 + _ ≤ aLen 72361361; rw [a2]; omega
      · rw [io_nat (by omega), show (0 : Int32).toNatClampNeg = 0 from rfl]; show 0 + _ ≤ aLen 79714193; rw [a1]; omega
    dsimp only
    rw [io_nat (by omega), show (0 : Int32).toNatClampNeg = 0 from rfl]
    rw [show gI (rI σ 79714193 0 (va_cpy (gI σ 72361361 (vN B 18 i)) (gI σ 79714193 0) 0 0 (vL B 10 i).length)) 7 4 (vN B 18 i) = Int32.ofNat (vL B 10 i).length from q4]
    have hX2 := x_PGk hX (f := va_cpy (gI σ 72361361 (vN B 18 i)) (gI σ 79714193 0) 0 0 (vL B 10 i).length) (vL B 10 i) (fun j hj hne => by
      unfold va_cpy
      rw [if_pos (by omega), Nat.sub_zero, Nat.zero_add]
      exact q5 j hj hne)
    refine wp_swX hX2 fun σ hX => wp_dr rfl (wp_gd rfl (wp_dr (rx_p0_4 hX) (wp_gd rfl ?_)))
    have hm := rx_msg hX (P := P) hPB
    dsimp only
    rw [hm.2.2.2.2.1]
    refine wp_cv (xc_set (d := d + 5) (a := 12) (n := 4) rfl rfl (by decide) (rx_p2_0 hX) ⟨rfl, ?_⟩)
    rw [x_set12, byJ_0, byJ_1, byJ_2, byJ_3, Int32.toInt32_toInt64]
    have hX3 := x_PGs (x_PGs (x_PGs (x_PGs hX 12 (by8 (pH P) 3)) 13 (by8 (pH P) 2)) 14 (by8 (pH P) 1)) 15 (by8 (pH P) 0)
    rw [again_set hkc.2.2.1] at hX3
    refine wp_cv (xc_send (d := d + 3) hX3 hc1 hc ?_ ?_ ?_ fun σ hX => ⟨rfl, wp_ret (k σ hX)⟩)
    · rw [fn_page_PG, again_len hkc.2.2.1]; omega
    · rw [fn_page_PG, again_len hkc.2.2.1]; omega
    · rw [fn_page_PG]; exact again_by hkc.2.2.2 _
  | none =>
    rw [hk] at k
    dsimp only at k
    have hln := rP_len hrB
    obtain ⟨hcc1, hcc8⟩ := rP_C hrB
    refine wp_if (fun _ => ?_) (fun q => absurd rfl q)
    refine wp_eq (e53_2 ..) (wp_swX (wx_GR0 hX) fun σ hX => wp_swX (wx_ENOUGH hX (-1)) fun σ hX => ?_)
    have hCE : z_CB n (sI (sN B 16 0 0) 19 0 (-1)) := ⟨hBB, hCB.2.1, hCB.2.2.1, fun r _ e => absurd (show (0 : Nat) = r + 1 from e) (by omega)⟩
    refine wp_cr (xc_decide (d := d) hX (P := P) hPB hrB hCE hw hrq hm272 hpB fun σ hX => ⟨_, rfl, wp_asI0 ?_⟩)
    obtain ⟨hdf, hdg⟩ := decide_df (sI (sN B 16 0 0) 19 0 (-1)) P p
    have hdg := hdg (show vN B 2 0 ≤ 16 by have := hBB.1; omega)
    generalize hR : fn_decide (sI (sN B 16 0 0) 19 0 (-1)) P p = R at *
    obtain ⟨D, res⟩ := R
    dsimp only at *
    have hPD : vP D = some P := hdf.2.2.2.trans hPB
    have eIN : vI D 64 = vI B 64 := funext fun i => hdf.1 _ i (by decide) (by decide) (by decide)
    have hrD : z_rP (vI D 64) P := by rw [eIN]; exact hrB
    have hHD : vL D 1 0 = vL B 1 0 := hdf.2.1 _ _ (by decide) (by decide) (by decide)
    obtain ⟨hH1, hH2⟩ := hBB.2.2.2.2.2.2.2.1
    have hH1 : (vL D 1 0).length ≤ 40 := by rw [hHD]; exact hH1
    have hH2 : z_by (vL D 1 0) := by rw [hHD]; exact hH2
    have hIBB := hBB.2.2.2.2.2.2.2.2.2.2.2.2
    have hIBD : ∀ k, nb (vI D 64 k) = vI D 64 k := by rw [eIN]; exact hIBB
    have hKD : vN D 4 0 = vN B 4 0 := hdf.2.2.1 _ _ (by decide) (by decide) (by decide) (by decide)
    have hb := hBB.1
    have hlen := fn_ans_len (res := res) hrD hH1
    have hby := fn_ans_by (res := res) hrD hIBD hH2
    refine wp_cv (xc_answer (d := d + 1) hX hPD hrD hH1 fun σ hX => ⟨rfl, wp_dr (rx_p0_4 hX) (wp_gd rfl ?_)⟩)
    refine cvX (fun Q' k => xc_num hX (by omega) k) fun σ hX => wp_dr rfl (wp_gd rfl (wp_cr ?_))
    refine xc_number (d := d + 4) (code := 416) hX (rx_msg hX (P := P) hPD) (by omega) hcc1 hcc8 (rP_num hrD (by decide)) ⟨_, rfl, wp_dr (rx_p0_4 hX) (wp_gd rfl ?_)⟩
    refine cvX (fun Q' k => xc_num hX (by rw [List.length_append, fn_num_len]; omega) k) fun σ hX => wp_dr rfl (wp_gd rfl (wp_cr ?_))
    refine xc_number (d := d + 4) (code := 415) hX (rx_msg hX (P := P) hPD) (by omega) hcc1 hcc8 (rP_num hrD (by decide)) ⟨_, rfl, wp_dr (rx_p0_4 hX) (wp_gd rfl ?_)⟩
    refine cvX (fun Q' k => xc_num hX (by rw [List.length_append, List.length_append, fn_num_len, fn_num_len]; omega) k) fun σ hX => ?_
    rw [show (4 : Int64).toInt32 = 4 from by decide, show vI (fn_page D (fn_ans D P res ++ fn_num 258 4)) 64 = vI B 64 from eIN] at hX
    have eN : ∀ l, vI (fn_page D l) 64 = vI B 64 := fun l => eIN
    simp only [eN] at hX
    have eA : vI A 64 = vI B 64 := by rw [← ‹vI B 64 = vI A 64›]
    rw [eA] at k
    generalize hl1 : fn_ans D P res ++ fn_num 258 4 ++ fn_num 416 (fn_n (vI B 64) P 416).toInt32 ++ fn_num 415 (fn_n (vI B 64) P 415).toInt32 = l1 at *
    have l1len : 20 ≤ l1.length ∧ l1.length ≤ 178 := by
      rw [← hl1, List.length_append, List.length_append, List.length_append, fn_num_len, fn_num_len, fn_num_len]
      omega
    have l1by : z_by l1 := by
      rw [← hl1]
      exact z_by_app (z_by_app (z_by_app hby (fn_num_by _ _)) (fn_num_by _ _)) (fn_num_by _ _)
    have fin : ∀ σ l, w_X T σ (fn_page D l) → 20 ≤ l.length → l.length ≤ 300 → z_by l → (∀ σ, w_X T σ (sN (fn_send (fn_keep (fn_page D l) P) c) 16 0 99) → Q σ none) → wp (E xP53 (zD (d + 6)) 6 [some (.inr (.inr (some (0, 0)))), none, some (.inr (.inr (some (4, c)))), some (.inr (.inr (some (3, 0)))), none, none] [] σ) Q := by
      intro σ l hX h20 h300 hlb kk
      have epg : vL (fn_page D l) 12 0 = l := fn_page_PG D l
      refine wp_eq (e53_6 ..) (wp_cv (xc_keep (d := d + 3) hX hPD hrD hw (by show vN D 4 0 ≤ 32; omega) (hdg.1 (by show vN B 2 0 ≤ 16; omega)) (by rw [epg]; exact h20) (by rw [epg]; exact h300) fun σ hX => ⟨rfl, ?_⟩))
      have epk : vL (fn_keep (fn_page D l) P) 12 0 = l := by
        unfold fn_keep
        dsimp only
        show vL (if vN (fn_page D l) 4 0 = 32 then fn_drop1 (fn_page D l) else fn_page D l) 12 0 = l
        split
        · exact epg
        · exact epg
      exact wp_cv (xc_send (d := d + 3) hX hc1 hc (by rw [epk]; omega) (by rw [epk]; omega) (by rw [epk]; exact hlb) fun σ hX => ⟨rfl, wp_ret (kk σ (x_GR99 hX))⟩)
    have fin4 : ∀ σ l, w_X T σ (fn_page D l) → 20 ≤ l.length → l.length ≤ 280 → z_by l → (∀ σ, w_X T σ (sN (fn_send (fn_keep (fn_page D (l ++ (if 0 ≤ vI D 19 0 then fn_num 422 (vI D 19 0) else []))) P) c) 16 0 99) → Q σ none) → wp (E xP53 (zD (d + 6)) 4 [some (.inr (.inr (some (0, 0)))), none, some (.inr (.inr (some (4, c)))), some (.inr (.inr (some (3, 0)))), none, none] [] σ) Q := by
      intro σ l hX h20 h300 hlb kk
      have een : gI σ 0 21 0 = vI D 19 0 := by
        have := rx_ENOUGH hX
        exact this
      refine wp_eq (e53_4 ..) (wp_if (fun h => ?_) (fun h => ?_)) <;> rw [een] at h
      · rw [if_neg (Int32.not_le.mpr h)] at kk
        exact fin σ l hX h20 (by omega) hlb (by rw [List.append_nil] at kk; exact kk)
      · rw [if_pos (Int32.not_lt.mp h)] at kk
        refine wp_eq (e53_5 ..) (wp_dr (rx_p0_4 hX) (wp_gd rfl ?_))
        rw [een]
        refine cvX (fun Q' k => xc_num hX (by omega) k) fun σ hX => ?_
        rw [Int32.toInt32_toInt64] at hX
        exact fin σ _ hX (by rw [List.length_append, fn_num_len]; omega) (by rw [List.length_append, fn_num_len]; omega) (z_by_app hlb (fn_num_by _ _)) kk
    have hgr := rx_N hX
    rcases hdg.2 with g0 | ⟨s, hs, hs16, g1⟩
    · have g0 : vN D 16 0 = 0 := g0
      rw [if_pos g0, List.append_nil] at k
      refine wp_if (fun _ => fin4 σ l1 hX (by omega) (by omega) l1by k) (fun q => absurd (hgr.1 g0) q)
    · have gr : gR σ 0 20 0 = some (5, vN D 17 s) := hgr.2 s hs16 g1
      rw [if_neg (show ¬ vN D 16 0 = 0 by omega), g1, Nat.add_sub_cancel] at k
      refine wp_if (fun q => absurd (gr.symm.trans q) (by simp)) (fun _ => ?_)
      refine wp_eq (e53_3 ..) (wp_dr gr (wp_gd rfl (wp_dr (rx_p0_4 hX) (wp_gd rfl ?_))))
      dsimp only
      rw [show gJ σ 5 4 (vN D 17 s) = vJ D 5 s from rx_SGRANT hX (s := s) hs]
      refine cvX (fun Q' k => xc_units hX (by omega) k) fun σ hX => wp_dr (rx_p0_4 hX) (wp_gd rfl ?_)
      have ulen : (fn_attr 431 16 ++ fn_attr 421 8 ++ b4 (vJ D 5 s >>> 32).toInt32 ++ b4 (vJ D 5 s).toInt32).length = 24 := rfl
      refine cvX (fun Q' k => xc_num hX (by rw [List.length_append, ulen]; omega) k) fun σ hX => ?_
      rw [show (600 : Int64).toInt32 = 600 from by decide, List.append_assoc] at hX
      refine fin4 σ _ hX ?_ ?_ ?_ k
      · rw [List.length_append]; omega
      · rw [List.length_append, List.length_append, ulen, fn_num_len]; omega
      · exact z_by_app l1by (z_by_app (z_by_app (z_by_app (z_by_app (fn_attr_by _ _) (fn_attr_by _ _)) (b4_by _)) (b4_by _)) (fn_num_by _ _))
