/-! PART 50 (src 50.xstates.src): the component's peers change their states -/
set_option maxHeartbeats 400000
theorem I_sI {n : Nat} {A : w_A} (h : z_I n A) {v : Nat} (h1 : v < 64) (h2 : v ≠ 0) (h3 : v ≠ 15) (h4 : v ≠ 16) (h5 : v ≠ 17) (i : Nat) (x : Int32) : z_I n (sI A v i x) := by
  have e : ∀ w j, w ≠ v → vI (sI A v i x) w j = vI A w j := fun w j hw => by rw [vI_sI, if_neg (fun e => hw e.1)]
  refine ⟨by rw [B_sI _ _ h1]; exact h.1, fun p => ?_, fun j hj => ?_, fun j hj => ?_⟩
  · rw [e _ _ (Ne.symm h2)]; exact h.2.1 p
  · rw [e _ _ (Ne.symm h3), e _ _ (Ne.symm h4), e _ _ (Ne.symm h5)]; exact h.2.2.1 j hj
  · rw [e _ _ (Ne.symm h3), e _ _ (Ne.symm h5)]; exact h.2.2.2 j hj
theorem I_sN {n : Nat} {A : w_A} (h : z_I n A) {v : Nat} (h1 : v = 7 ∨ v = 8 ∨ 15 ≤ v) (i x : Nat) : z_I n (sN A v i x) := by
  have e : ∀ w j, w ≠ v → vN (sN A v i x) w j = vN A w j := fun w j hw => by rw [vN_sN, if_neg (fun e => hw e.1)]
  refine ⟨by rw [B_sN _ _ h1]; exact h.1, fun p => ?_, fun j hj => ?_, fun j hj => ?_⟩
  · rw [e _ _ (by omega), e _ _ (by omega)]; exact h.2.1 p
  · rw [e _ _ (by omega)] at hj; rw [e _ _ (by omega), e _ _ (by omega)]; exact h.2.2.1 j hj
  · rw [e _ _ (by omega)] at hj; rw [e _ _ (by omega)]; exact h.2.2.2 j hj
theorem I_page {n : Nat} {A : w_A} (h : z_I n A) (l : List Int32) : z_I n (fn_page A l) := h
theorem I_send {n : Nat} {A : w_A} (h : z_I n A) (c : Nat) : z_I n (fn_send A c) := by
  refine ⟨by rw [B_send]; exact h.1, fun p => ?_, fun j hj => ?_, fun j hj => ?_⟩
  · rw [vI_send _ _ (by decide), vN_send, vN_send]; exact h.2.1 p
  · rw [vN_send] at hj; rw [vI_send _ _ (by decide), vI_send _ _ (by decide), vI_send _ _ (by decide), vN_send, vN_send]; exact h.2.2.1 j hj
  · rw [vN_send] at hj; rw [vI_send _ _ (by decide), vI_send _ _ (by decide), vN_send, vJ_send]; exact h.2.2.2 j hj
theorem I_hop {n : Nat} {A : w_A} (h : z_I n A) : z_I (n + 1) (fn_hop A) := by
  refine ⟨B_hop h.1, h.2.1, fun j hj => ?_, h.2.2.2⟩
  obtain ⟨⟨t, h1, h2, h3⟩, h4, h5⟩ := h.2.2.1 j hj
  exact ⟨⟨t, h1, Nat.le_succ_of_le h2, h3⟩, h4, h5⟩
theorem I_mono {n m : Nat} (h : n ≤ m) {A : w_A} (b : z_I n A) : z_I m A := ⟨z_B_mono h b.1, b.2⟩
theorem I_lost {n : Nat} {A : w_A} (h : z_I n A) : z_I n (fn_lost A) := I_sI h (by decide) (by decide) (by decide) (by decide) (by decide) _ _
/-- the same, where a peer's links may be under way -/
def z_Ip (n p : Nat) (A : w_A) : Prop := z_B n A ∧ (∀ q, ¬ q = p → (vI A 0 q = 5 → ¬ vN A 10 q = 0) ∧ (vI A 0 q = 6 → ¬ vN A 9 q = 0)) ∧ z_QI A
theorem I_p {n : Nat} {A : w_A} (h : z_I n A) (p : Nat) : z_Ip n p A := ⟨h.1, fun q _ => h.2.1 q, h.2.2⟩
theorem I_ST {n p : Nat} {A : w_A} (h : z_Ip n p A) {s : Int32} (h5 : s = 5 → ¬ vN A 10 p = 0) (h6 : s = 6 → ¬ vN A 9 p = 0) : z_I n (sI A 0 p s) := by
  refine ⟨by rw [B_sI _ _ (by decide)]; exact h.1, fun q => ?_, h.2.2⟩
  simp only [ev_rd, ev_st, aEl, z_w, z_cat, Nat.reduceMod, Nat.reduceDiv, Nat.reduceLeDiff, Nat.reduceLT, Nat.reduceAdd, Nat.reduceMul, Nat.reduceSub, Nat.reduceEqDiff, Int32.reduceLT, Int32.reduceLE, Int32.reduceAdd, Int32.reduceSub, Int32.reduceMul, true_and, and_true, false_and, and_false, true_or, or_true, false_or, or_false, not_true_eq_false, not_false_eq_true, if_true, if_false, reduceIte, ne_eq, and_self, or_self, reduceCtorEq, Option.some.injEq, Prod.mk.injEq]
  by_cases e : q = p
  · subst e
    simp only [if_true]
    exact ⟨h5, h6⟩
  · simp only [e, if_false]
    exact h.2.1 q e
theorem Ip_sI {n p : Nat} {A : w_A} (h : z_Ip n p A) {v : Nat} (h1 : v < 64) (h2 : v ≠ 0) (h3 : v ≠ 15) (h4 : v ≠ 16) (h5 : v ≠ 17) (i : Nat) (x : Int32) : z_Ip n p (sI A v i x) := by
  have e : ∀ w j, w ≠ v → vI (sI A v i x) w j = vI A w j := fun w j hw => by rw [vI_sI, if_neg (fun e => hw e.1)]
  refine ⟨by rw [B_sI _ _ h1]; exact h.1, fun p hp => ?_, fun j hj => ?_, fun j hj => ?_⟩
  · rw [e _ _ (Ne.symm h2)]; exact h.2.1 p hp
  · rw [e _ _ (Ne.symm h3), e _ _ (Ne.symm h4), e _ _ (Ne.symm h5)]; exact h.2.2.1 j hj
  · rw [e _ _ (Ne.symm h3), e _ _ (Ne.symm h5)]; exact h.2.2.2 j hj
theorem Ip_OWN {n p : Nat} {A : w_A} (h : z_Ip n p A) {x : Nat} (hx : x ≤ 8) : z_Ip n p (sN A 9 p x) := by
  refine ⟨B_OWN h.1 p hx, fun q hq => ?_, h.2.2⟩
  simp only [ev_rd, ev_st, aEl, z_w, z_cat, Nat.reduceMod, Nat.reduceDiv, Nat.reduceLeDiff, Nat.reduceLT, Nat.reduceAdd, Nat.reduceMul, Nat.reduceSub, Nat.reduceEqDiff, Int32.reduceLT, Int32.reduceLE, Int32.reduceAdd, Int32.reduceSub, Int32.reduceMul, true_and, and_true, false_and, and_false, true_or, or_true, false_or, or_false, not_true_eq_false, not_false_eq_true, if_true, if_false, reduceIte, ne_eq, and_self, or_self, reduceCtorEq, Option.some.injEq, Prod.mk.injEq, hq]
  exact h.2.1 q hq
theorem Ip_CAME {n p : Nat} {A : w_A} (h : z_Ip n p A) {x : Nat} (hx : x ≤ 8) : z_Ip n p (sN A 10 p x) := by
  refine ⟨B_CAME h.1 p hx, fun q hq => ?_, h.2.2⟩
  simp only [ev_rd, ev_st, aEl, z_w, z_cat, Nat.reduceMod, Nat.reduceDiv, Nat.reduceLeDiff, Nat.reduceLT, Nat.reduceAdd, Nat.reduceMul, Nat.reduceSub, Nat.reduceEqDiff, Int32.reduceLT, Int32.reduceLE, Int32.reduceAdd, Int32.reduceSub, Int32.reduceMul, true_and, and_true, false_and, and_false, true_or, or_true, false_or, or_false, not_true_eq_false, not_false_eq_true, if_true, if_false, reduceIte, ne_eq, and_self, or_self, reduceCtorEq, Option.some.injEq, Prod.mk.injEq, hq]
  exact h.2.1 q hq
theorem Ip_CPEER {n p : Nat} {A : w_A} (h : z_Ip n p A) (i : Nat) {x : Nat} (hx : x ≤ 4) : z_Ip n p (sN A 11 i x) := ⟨B_CPEER h.1 i hx, h.2⟩
theorem Ip_INL {n p : Nat} {A : w_A} (h : z_Ip n p A) (i : Nat) {x : Nat} (hx : x < 600) : z_Ip n p (sN A 14 i x) := ⟨B_INL h.1 i hx, h.2⟩
theorem Ip_close {n p : Nat} {A : w_A} (h : z_Ip n p A) (c : Nat) : z_Ip n p (fn_close A c) := by
  unfold fn_close
  exact Ip_INL (Ip_CPEER (Ip_sI (Ip_sI h (by decide) (by decide) (by decide) (by decide) (by decide) _ _) (by decide) (by decide) (by decide) (by decide) (by decide) _ _) _ (by omega)) _ (by omega)
theorem Ip_closeOwn {n p : Nat} {A : w_A} (h : z_Ip n p A) : z_Ip n p (fn_closeOwn A p) := by
  unfold fn_closeOwn
  split
  · exact h
  · exact Ip_OWN (Ip_close h _) (by omega)
theorem Ip_closeCame {n p : Nat} {A : w_A} (h : z_Ip n p A) : z_Ip n p (fn_closeCame A p) := by
  unfold fn_closeCame
  split
  · exact h
  · exact Ip_CAME (Ip_close h _) (by omega)
theorem Ip_send {n p : Nat} {A : w_A} (h : z_Ip n p A) (c : Nat) : z_Ip n p (fn_send A c) := by
  refine ⟨by rw [B_send]; exact h.1, fun p hp => ?_, fun j hj => ?_, fun j hj => ?_⟩
  · rw [vI_send _ _ (by decide), vN_send, vN_send]; exact h.2.1 p hp
  · rw [vN_send] at hj; rw [vI_send _ _ (by decide), vI_send _ _ (by decide), vI_send _ _ (by decide), vN_send, vN_send]; exact h.2.2.1 j hj
  · rw [vN_send] at hj; rw [vI_send _ _ (by decide), vI_send _ _ (by decide), vN_send, vJ_send]; exact h.2.2.2 j hj
theorem Ip_page {n p : Nat} {A : w_A} (h : z_Ip n p A) (l : List Int32) : z_Ip n p (fn_page A l) := h
theorem Ip_ansCame {n p : Nat} {A : w_A} (h : z_Ip n p A) : z_Ip n p (fn_answerCame A p) := by
  unfold fn_answerCame
  exact Ip_send (Ip_page h _) _
theorem watch_Inv {n : Nat} {A : w_A} (h : z_I n A) (p : Nat) : z_I (n + 1) (fn_sendWatch A p) := by
  unfold fn_sendWatch
  exact I_send (I_page (I_sI (I_sI (I_hop h) (by decide) (by decide) (by decide) (by decide) (by decide) _ _) (by decide) (by decide) (by decide) (by decide) (by decide) _ _) _) _
theorem leave_Inv {n : Nat} {A : w_A} (h : z_I n A) (p : Nat) (hn : n + 64 < 2147483648) : z_I (n + 64) (fn_leave A p) := by
  unfold fn_leave
  exact giveOver_Inv (I_sN (I_sI (I_sI h (by decide) (by decide) (by decide) (by decide) (by decide) _ _) (by decide) (by decide) (by decide) (by decide) (by decide) _ _) (by decide) _ _) p hn
theorem comeUp_Inv {n : Nat} {A : w_A} (h : z_I n A) (p : Nat) : z_I (n + 1) (fn_comeUp A p) := by
  unfold fn_comeUp
  split
  · exact I_mono (Nat.le_succ n) (I_sI (I_sN h (by decide) _ _) (by decide) (by decide) (by decide) (by decide) (by decide) _ _)
  · exact watch_Inv (I_sI (I_sI (I_sN h (by decide) _ _) (by decide) (by decide) (by decide) (by decide) (by decide) _ _) (by decide) (by decide) (by decide) (by decide) (by decide) _ _) p
theorem enter_Inv {n p : Nat} {A : w_A} (h : z_Ip n p A) {s : Int32} (h5 : s = 5 → ¬ vN A 10 p = 0) (h6 : s = 6 → ¬ vN A 9 p = 0) (hn : n + 64 < 2147483648) : z_I (n + 64) (fn_enter A p s) := by
  have h1 : z_I n (sN (sI A 0 p s) 7 p (vN A 5 0 + 10)) := I_sN (I_ST h h5 h6) (by decide) _ _
  unfold fn_enter
  dsimp only
  split
  · split
    · exact I_mono (by omega) h1
    · exact leave_Inv h1 p hn
  · split
    · exact I_mono (by omega) (comeUp_Inv h1 p)
    · exact I_mono (by omega) h1
theorem xc_leave {T σ : z_St} {A : w_A} (hX : w_X T σ A) {d p n : Nat} (hI : z_I n A) (hn : n + 64 < 2147483648) {Q : z_St → Option z_V → Prop} (k : ∀ σ, w_X T σ (fn_leave A p) → Q σ none) : wp (zD (d + 7) 24 [.inr (.inr (some (0, 0))), .inr (.inr (some (9, p)))] σ) Q := by
  refine wp_eq (c24 ..) (wp_eq (e24_0 ..) (wp_dr rfl (wp_gd rfl ?_)))
  dsimp only
  refine wp_swX (wx_STAT hX _ _) fun σ hX => wp_dr rfl (wp_gd rfl (wp_swX (wx_AWAIT hX _ _) fun σ hX => wp_dr rfl (wp_gd rfl ?_)))
  dsimp only
  rw [rx_NOW hX, io_add_l]
  refine wp_swX (wx_DUE hX _ _) fun σ hX => ?_
  have h1 := I_sN (I_sI (I_sI hI (v := 1) (by decide) (by decide) (by decide) (by decide) (by decide) p 3) (v := 2) (by decide) (by decide) (by decide) (by decide) (by decide) p 0) (v := 8) (by decide) p (vN A 5 0 + 30)
  exact wp_cv (xc_giveOver hX h1 hn fun σ hX => ⟨rfl, wp_ret (k _ hX)⟩)
theorem xc_comeUp {T σ : z_St} {A : w_A} (hX : w_X T σ A) {d p n : Nat} (hI : z_I n A) (hu : fn_up A p) {Q : z_St → Option z_V → Prop} (k : ∀ σ, w_X T σ (fn_comeUp A p) → Q σ none) : wp (zD (d + 6) 23 [.inr (.inr (some (0, 0))), .inr (.inr (some (9, p)))] σ) Q := by
  refine wp_eq (c23 ..) (wp_eq (e23_0 ..) (wp_dr rfl (wp_gd rfl ?_)))
  dsimp only
  rw [rx_NOW hX, io_add_l]
  refine wp_swX (wx_DUE hX _ _) fun σ hX => wp_dr rfl (wp_gd rfl ?_)
  dsimp only
  refine wp_if (fun hc => ?_) (fun hc => ?_) <;> rw [rx_STAT hX] at hc
  · have hc : vI A 1 p = 0 := hc
    refine wp_eq (e23_1 ..) (wp_dr rfl (wp_gd rfl (wp_swX (wx_STAT hX _ _) fun σ hX => wp_ret (k _ (X_cv hX ?_)))))
    exact (if_pos hc).symm
  · have hc : ¬ vI A 1 p = 0 := hc
    refine wp_eq (e23_2 ..) (wp_dr rfl (wp_gd rfl (wp_swX (wx_STAT hX _ _) fun σ hX => wp_dr rfl (wp_gd rfl (wp_swX (wx_ANSW hX _ _) fun σ hX => ?_)))))
    dsimp only at hX
    have h1 := I_sI (I_sI (I_sN hI (v := 8) (by decide) p (vN A 5 0 + 30)) (v := 1) (by decide) (by decide) (by decide) (by decide) (by decide) p 4) (v := 4) (by decide) (by decide) (by decide) (by decide) (by decide) p 0
    refine wp_cv (xc_sendWatch hX h1.1 hu (h1.2.1 p).1 (h1.2.1 p).2 fun σ hX => ⟨rfl, wp_ret (k _ (X_cv hX ?_))⟩)
    exact (if_neg hc).symm
theorem xc_enter {T σ : z_St} {A : w_A} (hX : w_X T σ A) {d p n : Nat} {s : Int32} (hI : z_Ip n p A) (h5 : s = 5 → ¬ vN A 10 p = 0) (h6 : s = 6 → ¬ vN A 9 p = 0) (hn : n + 64 < 2147483648) {Q : z_St → Option z_V → Prop} (k : ∀ σ, w_X T σ (fn_enter A p s) → Q σ none) : wp (zD (d + 8) 22 [.inr (.inr (some (0, 0))), .inr (.inr (some (9, p))), .inl s] σ) Q := by
  have h1 : z_I n (sN (sI A 0 p s) 7 p (vN A 5 0 + 10)) := I_sN (I_ST hI h5 h6) (by decide) _ _
  have hs : vI (sN (sI A 0 p s) 7 p (vN A 5 0 + 10)) 0 p = s := by simp only [ev_rd, ev_st, aEl, z_w, z_cat, Nat.reduceMod, Nat.reduceDiv, Nat.reduceLeDiff, Nat.reduceLT, Nat.reduceAdd, Nat.reduceMul, Nat.reduceSub, Nat.reduceEqDiff, Int32.reduceLT, Int32.reduceLE, Int32.reduceAdd, Int32.reduceSub, Int32.reduceMul, true_and, and_true, false_and, and_false, true_or, or_true, false_or, or_false, not_true_eq_false, not_false_eq_true, if_true, if_false, reduceIte, ne_eq, and_self, or_self, reduceCtorEq, Option.some.injEq, Prod.mk.injEq]
  refine wp_eq (c22 ..) (wp_eq (e22_0 ..) (wp_dr rfl (wp_gd rfl ?_)))
  refine wp_cr (xc_isUp hX fun σ v hX hv => ⟨_, hv, wp_asI0 (wp_dr rfl (wp_gd rfl ?_))⟩)
  dsimp only
  refine wp_swX (wx_ST hX _ _) fun σ hX => wp_dr rfl (wp_gd rfl ?_)
  dsimp only
  rw [rx_NOW hX, io_add_l]
  refine wp_swX (wx_LIM hX _ _) fun σ hX => ?_
  have hX : w_X T σ (sN (sI A 0 p s) 7 p (vN A 5 0 + 10)) := hX
  have hup : fn_up (sN (sI A 0 p s) 7 p (vN A 5 0 + 10)) p = (s = 5 ∨ s = 6) := by unfold fn_up; rw [hs]
  refine wp_if (fun hc => ?_) (fun hc => ?_) <;> rw [b2i_0] at hc
  · refine wp_eq (e22_3 ..) (wp_if (fun hz => ?_) (fun hz => ?_)) <;> rw [b2i_0] at hz
    · refine wp_eq (e22_4 ..) (wp_dr rfl (wp_gd rfl (wp_cr (xc_isUp hX fun σ v hX hv => ⟨_, hv, wp_asI0 ?_⟩))))
      refine wp_if (fun hy => ?_) (fun hy => ?_) <;> rw [b2i_0, hup] at hy
      · refine wp_eq (e22_6 ..) (wp_ret (k _ (X_cv hX ?_)))
        unfold fn_enter
        rw [if_neg hc, if_neg hy]
      · have hy := Decidable.not_not.mp hy
        refine wp_eq (e22_5 ..) (wp_cv (xc_comeUp hX h1 (by rw [hup]; exact hy) fun σ hX => ⟨rfl, wp_eq (e22_6 ..) (wp_ret (k _ (X_cv hX ?_)))⟩))
        unfold fn_enter
        rw [if_neg hc, if_pos hy]
    · exact absurd hc hz
  · have hc := Decidable.not_not.mp hc
    have tail : ∀ σ, w_X T σ (fn_enter A p s) → wp (E xP22 (zD (d + 7)) 3 [some (.inr (.inr (some (0, 0)))), some (.inr (.inr (some (9, p)))), none, some (.inl (b2i (fn_up A p)))] [] σ) Q := fun σ hX => by
      refine wp_eq (e22_3 ..) (wp_if (fun hz => ?_) (fun hz => ?_)) <;> rw [b2i_0] at hz
      · exact absurd hc hz
      · exact wp_eq (e22_6 ..) (wp_ret (k _ hX))
    refine wp_eq (e22_1 ..) (wp_dr rfl (wp_gd rfl (wp_cr (xc_isUp hX fun σ v hX hv => ⟨_, hv, wp_asI0 ?_⟩))))
    refine wp_if (fun hy => ?_) (fun hy => ?_) <;> rw [b2i_0, hup] at hy
    · refine wp_eq (e22_2 ..) (wp_cv (xc_leave hX h1 hn fun σ hX => ⟨rfl, tail σ (X_cv hX ?_)⟩))
      unfold fn_enter
      rw [if_pos hc, if_neg hy]
    · have hy := Decidable.not_not.mp hy
      refine tail σ (X_cv hX ?_)
      unfold fn_enter
      rw [if_pos hc, if_pos hy]
