/-! PART 65 (src 65.ring.src): a peer's watch is due: both sides -/
set_option maxHeartbeats 400000
theorem closeOwn_DUE (A : w_A) (p q x : Nat) : fn_closeOwn (sN A 8 q x) p = sN (fn_closeOwn A p) 8 q x := by
  unfold fn_closeOwn
  by_cases h : vN A 9 p = 0
  · rw [if_pos h, if_pos (show vN (sN A 8 q x) 9 p = 0 from h)]
  · rw [if_neg h, if_neg (show ¬ vN (sN A 8 q x) 9 p = 0 from h)]
    rw [sN_or _ (show 8 < 9 by decide)]
    congr 1
    show fn_close (sN A 8 q x) (vN A 9 p) = _
    unfold fn_close
    rw [sN_or _ (show 8 < 14 by decide), sN_or _ (show 8 < 11 by decide)]
    rfl
theorem closeCame_DUE (A : w_A) (p q x : Nat) : fn_closeCame (sN A 8 q x) p = sN (fn_closeCame A p) 8 q x := by
  unfold fn_closeCame
  by_cases h : vN A 10 p = 0
  · rw [if_pos h, if_pos (show vN (sN A 8 q x) 10 p = 0 from h)]
  · rw [if_neg h, if_neg (show ¬ vN (sN A 8 q x) 10 p = 0 from h)]
    rw [sN_or _ (show 8 < 10 by decide)]
    congr 1
    show fn_close (sN A 8 q x) (vN A 10 p) = _
    unfold fn_close
    rw [sN_or _ (show 8 < 14 by decide), sN_or _ (show 8 < 11 by decide)]
    rfl
theorem enter_DUE (A : w_A) (p x : Nat) (hu : fn_up A p) : fn_enter (sN A 8 p x) p 0 = fn_enter A p 0 := by
  unfold fn_enter
  rw [if_pos hu, if_pos (show fn_up (sN A 8 p x) p from hu), if_neg (by decide), if_neg (by decide)]
  unfold fn_leave
  congr 1
  show sI (sI (sI (sN (sN (sN A 8 p x) 7 p (vN A 5 0 + 10)) 8 p (vN A 5 0 + 30)) 0 p 0) 1 p 3) 2 p 0 = _
  rw [sN_or A (show 7 < 8 by decide), sN_sN]
  rfl
theorem shut_DUE (A : w_A) (p x : Nat) (hu : fn_up A p) : fn_shut (sN A 8 p x) p = fn_shut A p := by
  unfold fn_shut
  rw [closeOwn_DUE, closeCame_DUE, enter_DUE]
  unfold fn_up
  rw [closeCame_I _ _ (by decide) (by decide), closeOwn_I _ _ (by decide) (by decide)]
  exact hu
theorem xc_timer {T σ : z_St} {A : w_A} (hX : w_X T σ A) {d p n : Nat} (hp : p < 4) (hI : z_I n A) (hst : vI A 1 p = 1 ∨ vI A 1 p = 2 ∨ vI A 1 p = 4 → fn_up A p) (hn : n + 64 < 2147483648) {Q : z_St → Option z_V → Prop} (k : ∀ σ, w_X T σ (fn_ring A p) → Q σ none) : wp (zD (d + 10) 42 [.inr (.inr (some (0, 0))), .inr (.inr (some (9, p)))] σ) Q := by
  have hI1 : z_I n (sN A 8 p (vN A 5 0 + 30)) := I_sN hI (by decide) _ _
  unfold fn_ring at k
  dsimp only at k
  refine wp_eq (c42 ..) (wp_eq (e42_0 ..) (wp_dr rfl (wp_gd rfl ?_)))
  dsimp only
  rw [rx_NOW hX, io_add_l]
  refine wp_swX (wx_DUE hX _ _) fun σ hX => wp_dr rfl (wp_gd rfl ?_)
  dsimp only
  rw [rx_STAT hX, vI_sN]
  have b8 : ¬ vI A 1 p = 1 → ¬ vI A 1 p = 2 → ¬ vI A 1 p = 4 → wp (E xP42 (zD (d + 9)) 8 [some (.inr (.inr (some (0, 0)))), some (.inr (.inr (some (9, p)))), none] [] σ) Q := by
    intro h1 h2 h4
    rw [if_neg h1, if_neg h2, if_neg h4] at k
    have no : ¬ (vI A 11 p ≠ 0 ∧ vI A 0 p = 0) → wp (E xP42 (zD (d + 9)) 11 [some (.inr (.inr (some (0, 0)))), some (.inr (.inr (some (9, p)))), none] [] σ) Q := fun h => by
      rw [if_neg h] at k
      refine wp_eq (e42_11 ..) (wp_eq (e42_12 ..) ?_)
      rw [if_pos rfl]
      exact wp_eq (e42_14 ..) (wp_ret (k _ hX))
    refine wp_eq (e42_8 ..) (wp_dr rfl (wp_gd rfl (wp_if (fun hc => ?_) (fun hc => ?_)))) <;> (dsimp only at hc; rw [rx_STARTS hX, vI_sN] at hc)
    · exact no fun h => h.1 hc
    refine wp_eq (e42_9 ..) (wp_dr rfl (wp_gd rfl (wp_if (fun hz => ?_) (fun hz => ?_)))) <;> (dsimp only at hz; rw [rx_ST hX, vI_sN] at hz)
    · rw [if_pos ⟨hc, hz⟩] at k
      refine wp_eq (e42_10 ..) (wp_cr (xc_spare hX fun v hv => ⟨_, hv, ?_⟩))
      refine wp_eq (e42_12 ..) ?_
      cases hs : fn_spare (sN A 8 p (vN A 5 0 + 30)) with
      | none =>
        rw [hs] at k
        refine wp_if (fun _ => ?_) (fun h => absurd (by rfl) h)
        exact wp_eq (e42_14 ..) (wp_ret (k _ hX))
      | some c =>
        obtain ⟨h1, h8, -⟩ := spare_some hs
        rw [hs] at k
        rw [if_neg (by simp)]
        exact wp_eq (e42_13 ..) (wp_cv (xc_begin_ hX hp (by omega) h8 hI1 hn fun σ hX => ⟨rfl, wp_eq (e42_14 ..) (wp_ret (k _ hX))⟩))
    · exact no fun h => hz h.2
  refine wp_if (fun h1 => ?_) (fun h1 => ?_)
  · rw [if_pos h1] at k
    have hu := hst (.inl h1)
    refine wp_eq (e42_1 ..) (wp_dr rfl (wp_gd rfl (wp_if (fun hc => ?_) (fun hc => ?_)))) <;> (dsimp only at hc; rw [rx_AWAIT hX, vI_sN] at hc)
    · rw [if_pos hc] at k
      exact wp_eq (e42_3 ..) (wp_cv (xc_sendWatch hX hI1.1 hu (hI1.2.1 p).1 (hI1.2.1 p).2 fun σ hX => ⟨rfl, wp_eq (e42_14 ..) (wp_ret (k _ hX))⟩))
    · rw [if_neg hc] at k
      refine wp_eq (e42_2 ..) (wp_dr rfl (wp_gd rfl (wp_swX (wx_STAT hX _ _) fun σ hX => ?_)))
      exact wp_cv (xc_giveOver hX (I_sI hI1 (by decide) (by decide) (by decide) (by decide) (by decide) _ _) hn fun σ hX => ⟨rfl, wp_eq (e42_14 ..) (wp_ret (k _ hX))⟩)
  refine wp_if (fun h2 => ?_) (fun h2 => ?_)
  · rw [if_neg h1, if_pos h2] at k
    exact wp_eq (e42_4 ..) (wp_cv (xc_shut hX (I_p hI1 p) hn fun σ hX => ⟨rfl, wp_eq (e42_14 ..) (wp_ret (k _ hX))⟩))
  refine wp_if (fun h3 => b8 h1 h2 (by rw [h3]; decide)) (fun h3 => ?_)
  refine wp_if (fun h4 => ?_) (fun h4 => b8 h1 h2 h4)
  rw [if_neg h1, if_neg h2, if_pos h4] at k
  have hu := hst (.inr (.inr h4))
  refine wp_eq (e42_5 ..) (wp_dr rfl (wp_gd rfl (wp_if (fun hc => ?_) (fun hc => ?_)))) <;> (dsimp only at hc; rw [rx_AWAIT hX, vI_sN] at hc)
  · rw [if_pos hc] at k
    exact wp_eq (e42_7 ..) (wp_cv (xc_sendWatch hX hI1.1 hu (hI1.2.1 p).1 (hI1.2.1 p).2 fun σ hX => ⟨rfl, wp_eq (e42_14 ..) (wp_ret (k _ hX))⟩))
  · rw [if_neg hc] at k
    exact wp_eq (e42_6 ..) (wp_cv (xc_shut hX (I_p hI1 p) hn fun σ hX => ⟨rfl, wp_eq (e42_14 ..) (wp_ret (k _ hX))⟩))
