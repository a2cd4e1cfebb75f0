/-! PART 66 (src 66.mring.src): a peer's watch is due: the twin -/
set_option maxHeartbeats 400000
theorem watch_DUE2 (A : w_A) (p x y : Nat) : fn_sendWatch (sN (sN A 8 p x) 8 p y) p = fn_sendWatch (sN A 8 p y) p := by rw [sN_sN]
theorem mc_ring {T σ : z_St} {A : w_A} (hM : w_M T σ A) {d p n : Nat} (hp : p < 4) (hI : z_I n A) (hS : z_Sp A p) (hst : vI A 1 p = 1 ∨ vI A 1 p = 2 ∨ vI A 1 p = 4 → fn_up A p) (hn : n + 64 < 2147483648) {Q : z_St → Option z_V → Prop} (k : ∀ σ, w_M T σ (fn_ring A p) → Q σ none) : wp (zD (d + 9) 170 [.inr (.inr (some (8, 0))), .inl (Int32.ofNat p)] σ) Q := by
  have hI1 : z_I n (sN A 8 p (vN A 5 0 + 30)) := I_sN hI (by decide) _ _
  have hp31 : p < 2147483648 := by omega
  unfold fn_ring at k
  dsimp only at k
  refine wp_eq (c170 ..) (wp_eq (e170_0 ..) (wp_ar (rm_p15 hM) aty_16777360 alen_16777360 rfl (by omega) (by decide) ?_))
  simp only [io_nat hp31]
  rw [rm_STAT hM]
  have fin : ∀ {B : w_A} {σ : z_St}, (∀ σ, w_M T σ B → Q σ none) → w_M T σ B → wp (E xP170 (zD (d + 8)) 11 [none, none, none] [] σ) Q := fun k hM => wp_eq (e170_11 ..) (wp_ret (k _ hM))
  have b8 : ¬ vI A 1 p = 1 → ¬ vI A 1 p = 2 → ¬ vI A 1 p = 4 → wp (E xP170 (zD (d + 8)) 8 [some (.inr (.inr (some (8, 0)))), some (.inl (Int32.ofNat p)), none] [] σ) Q := by
    intro h1 h2 h4
    rw [if_neg h1, if_neg h2, if_neg h4] at k
    refine wp_eq (e170_8 ..) (wp_ar (rm_p17 hM) aty_18874512 alen_18874512 rfl (by omega) (by decide) ?_)
    simp only [io_nat hp31]
    rw [rm_NOW hM, io_add_l]
    refine wp_swM (wm_DUE hM _ _) fun σ hM => (wp_ar (rm_p10 hM) aty_11534482 alen_11534482 rfl (by omega) (by decide) ?_)
    refine wp_if (fun hc => ?_) (fun hc => ?_) <;> (dsimp only at hc; rw [rm_STARTS hM, vI_sN] at hc)
    · rw [if_neg fun h => h.1 hc] at k
      exact fin k hM
    refine wp_eq (e170_9 ..) (wp_ar (rm_p11 hM) aty_12583056 alen_12583056 rfl (by omega) (by decide) ?_)
    refine wp_if (fun hz => ?_) (fun hz => ?_) <;> (dsimp only at hz; rw [io_nat hp31, rm_ST hM, vI_sN] at hz)
    · rw [if_pos ⟨hc, hz⟩] at k
      refine wp_eq (e170_10 ..) (wp_cr (mc_begin hM hp hI1 hn fun σ v hM hv => ⟨_, hv, wp_asI0 ?_⟩))
      unfold fn_bg at hM
      exact fin k hM
    · rw [if_neg fun h => hz h.2] at k
      exact fin k hM
  refine wp_if (fun h1 => ?_) (fun h1 => ?_)
  · rw [if_pos h1] at k
    have hu := hst (.inl h1)
    refine wp_eq (e170_1 ..) (wp_ar (rm_p16 hM) aty_17825938 alen_17825938 rfl (by omega) (by decide) ?_)
    refine wp_if (fun hc => ?_) (fun hc => ?_) <;> (dsimp only at hc; rw [io_nat hp31, rm_AWAIT hM] at hc)
    · rw [if_pos hc] at k
      refine wp_eq (e170_2 ..) (wp_cv (mc_sendWatch hM hp hI hu fun σ hM => ⟨rfl, ?_⟩))
      rw [watch_DUE] at hM
      exact fin k hM
    · rw [if_neg hc] at k
      refine wp_eq (e170_3 ..) (wp_ar (rm_p15 hM) aty_16777360 alen_16777360 rfl (by omega) (by decide) ?_)
      simp only [io_nat hp31]
      refine wp_swM (wm_STAT hM _ _) fun σ hM => (wp_ar (rm_p17 hM) aty_18874512 alen_18874512 rfl (by omega) (by decide) ?_)
      simp only [io_nat hp31]
      rw [rm_NOW hM, io_add_l]
      refine wp_swM (wm_DUE hM _ _) fun σ hM => ?_
      have hM : w_M T σ (sI (sN A 8 p (vN A 5 0 + 30)) 1 p 2) := hM
      exact wp_cv (mc_giveOver hM hp (I_sI hI1 (by decide) (by decide) (by decide) (by decide) (by decide) _ _) hn fun σ hM => ⟨rfl, fin k hM⟩)
  refine wp_if (fun h2 => ?_) (fun h2 => ?_)
  · rw [if_neg h1, if_pos h2, shut_DUE _ _ _ (hst (.inr (.inl h2)))] at k
    exact wp_eq (e170_4 ..) (wp_cv (mc_dropAll hM hp (I_p hI p) hS hn fun σ hM => ⟨rfl, fin k hM⟩))
  refine wp_if (fun h3 => b8 h1 h2 (by rw [h3]; decide)) (fun h3 => ?_)
  refine wp_if (fun h4 => ?_) (fun h4 => b8 h1 h2 h4)
  rw [if_neg h1, if_neg h2, if_pos h4] at k
  have hu := hst (.inr (.inr h4))
  refine wp_eq (e170_5 ..) (wp_ar (rm_p16 hM) aty_17825938 alen_17825938 rfl (by omega) (by decide) ?_)
  refine wp_if (fun hc => ?_) (fun hc => ?_) <;> (dsimp only at hc; rw [io_nat hp31, rm_AWAIT hM] at hc)
  · rw [if_pos hc] at k
    refine wp_eq (e170_6 ..) (wp_cv (mc_sendWatch hM hp hI hu fun σ hM => ⟨rfl, ?_⟩))
    rw [watch_DUE] at hM
    exact fin k hM
  · rw [if_neg hc, shut_DUE _ _ _ hu] at k
    exact wp_eq (e170_7 ..) (wp_cv (mc_dropAll hM hp (I_p hI p) hS hn fun σ hM => ⟨rfl, fin k hM⟩))
