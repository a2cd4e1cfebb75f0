/-! PART 69 (src 69.sess.src, printed by wip/gen/g69.py): a session's places: reads and writes -/
set_option maxHeartbeats 400000
theorem rx_SGRANT {T σ : z_St} {A : w_A} (h : w_X T σ A) {s : Nat} (hs : s < vN A 2 0) : gJ σ 5 4 (vN A 17 s) = vJ A 5 s := ((rx_J h).2.2 s hs).1
theorem rm_SGRANT {T σ : z_St} {A : w_A} (h : w_M T σ A) {s : Nat} (hs : s < vN A 2 0) : gJ σ 45089299 0 s = vJ A 5 s := ((rm_J h).2 s hs).1
theorem rx_SCOUNT {T σ : z_St} {A : w_A} (h : w_X T σ A) {s : Nat} (hs : s < vN A 2 0) : gJ σ 5 5 (vN A 17 s) = vJ A 6 s := ((rx_J h).2.2 s hs).2.1
theorem rm_SCOUNT {T σ : z_St} {A : w_A} (h : w_M T σ A) {s : Nat} (hs : s < vN A 2 0) : gJ σ 46137875 0 s = vJ A 6 s := ((rm_J h).2 s hs).2.1
theorem rx_SPEER {T σ : z_St} {A : w_A} (h : w_X T σ A) {s : Nat} (hs : s < vN A 2 0) : gI σ 5 6 (vN A 17 s) = vI A 20 s := ((rx_J h).2.2 s hs).2.2.1
theorem rm_SPEER {T σ : z_St} {A : w_A} (h : w_M T σ A) {s : Nat} (hs : s < vN A 2 0) : gI σ 47186448 0 s = vI A 20 s := ((rm_J h).2 s hs).2.2.1
theorem rx_SEND {T σ : z_St} {A : w_A} (h : w_X T σ A) {s : Nat} (hs : s < vN A 2 0) : gI σ 5 7 (vN A 17 s) = vI A 21 s := ((rx_J h).2.2 s hs).2.2.2.1
theorem rm_SEND {T σ : z_St} {A : w_A} (h : w_M T σ A) {s : Nat} (hs : s < vN A 2 0) : gI σ 48235024 0 s = vI A 21 s := ((rm_J h).2 s hs).2.2.2.1
theorem rx_SACC {T σ : z_St} {A : w_A} (h : w_X T σ A) {s : Nat} (hs : s < vN A 2 0) : gR σ 5 3 (vN A 17 s) = (if vN A 13 s = 0 then none else some (10, vN A 13 s - 1)) := ((rx_J h).2.2 s hs).2.2.2.2.1
theorem rm_SACC {T σ : z_St} {A : w_A} (h : w_M T σ A) {s : Nat} (hs : s < vN A 2 0) : gI σ 44040720 0 s = Int32.ofNat (vN A 13 s - 1) := ((rm_J h).2 s hs).2.2.2.2.1
theorem rx_sobj {T σ : z_St} {A : w_A} (h : w_X T σ A) {s : Nat} (hs : s < 16) : gR σ 4194839 0 s = some (5, vN A 17 s) := ((rx_J h).1 s hs).1
theorem wx_SGRANT {T σ : z_St} {A : w_A} (h : w_X T σ A) {s : Nat} (hs : s < vN A 2 0) (hl : vN A 2 0 ≤ 16) (x : Int64) : w_X T (wJ σ 5 4 (vN A 17 s) x) (sJ A 5 s x) := by
  obtain ⟨hT, hA, hB, hC, hD, hE, hF, hG, hH, hI, hJ, hK, hL, hM, hN⟩ := h
  refine ⟨x_T_wJ hT (z_isM_dec _ rfl), hA, hB, hC, hD, hE, hF, hG, hH, hI, ⟨hJ.1, hJ.2.1, fun r hr => ?_⟩, hK, hL, hM, hN⟩
  have hr' : r < vN A 2 0 := hr
  obtain ⟨h1, h2, h3, h4, h5, h6, h7, h8⟩ := hJ.2.2 r hr'
  refine ⟨?_, h2, h3, h4, h5, h6, h7, h8⟩
  show gJ (wJ σ 5 4 (vN A 17 s) x) 5 4 (vN A 17 r) = vJ (sJ A 5 s x) 5 r
  rw [gJ_wJ, vJ_sJ]
  by_cases e : r = s
  · subst e
    rw [if_pos (⟨rfl, rfl, rfl⟩ : _ ∧ _ ∧ _), if_pos ⟨rfl, rfl⟩]
  · rw [if_neg (fun g => e ((hJ.1 s (by omega)).2.2 r (by omega) g.2.2)), if_neg (fun g => e g.2)]
    exact h1
theorem wx_SCOUNT {T σ : z_St} {A : w_A} (h : w_X T σ A) {s : Nat} (hs : s < vN A 2 0) (hl : vN A 2 0 ≤ 16) (x : Int64) : w_X T (wJ σ 5 5 (vN A 17 s) x) (sJ A 6 s x) := by
  obtain ⟨hT, hA, hB, hC, hD, hE, hF, hG, hH, hI, hJ, hK, hL, hM, hN⟩ := h
  refine ⟨x_T_wJ hT (z_isM_dec _ rfl), hA, hB, hC, hD, hE, hF, hG, hH, hI, ⟨hJ.1, hJ.2.1, fun r hr => ?_⟩, hK, hL, hM, hN⟩
  have hr' : r < vN A 2 0 := hr
  obtain ⟨h1, h2, h3, h4, h5, h6, h7, h8⟩ := hJ.2.2 r hr'
  refine ⟨h1, ?_, h3, h4, h5, h6, h7, h8⟩
  show gJ (wJ σ 5 5 (vN A 17 s) x) 5 5 (vN A 17 r) = vJ (sJ A 6 s x) 6 r
  rw [gJ_wJ, vJ_sJ]
  by_cases e : r = s
  · subst e
    rw [if_pos (⟨rfl, rfl, rfl⟩ : _ ∧ _ ∧ _), if_pos ⟨rfl, rfl⟩]
  · rw [if_neg (fun g => e ((hJ.1 s (by omega)).2.2 r (by omega) g.2.2)), if_neg (fun g => e g.2)]
    exact h2
theorem wx_SPEER {T σ : z_St} {A : w_A} (h : w_X T σ A) {s : Nat} (hs : s < vN A 2 0) (hl : vN A 2 0 ≤ 16) (x : Int32) : w_X T (wI σ 5 6 (vN A 17 s) x) (sI A 20 s x) := by
  obtain ⟨hT, hA, hB, hC, hD, hE, hF, hG, hH, hI, hJ, hK, hL, hM, hN⟩ := h
  refine ⟨x_T_wI hT (z_isM_dec _ rfl), hA, hB, hC, hD, hE, hF, hG, hH, hI, ⟨hJ.1, hJ.2.1, fun r hr => ?_⟩, hK, hL, hM, hN⟩
  have hr' : r < vN A 2 0 := hr
  obtain ⟨h1, h2, h3, h4, h5, h6, h7, h8⟩ := hJ.2.2 r hr'
  refine ⟨h1, h2, ?_, h4, h5, h6, h7, h8⟩
  show gI (wI σ 5 6 (vN A 17 s) x) 5 6 (vN A 17 r) = vI (sI A 20 s x) 20 r
  rw [gI_wI, vI_sI]
  by_cases e : r = s
  · subst e
    rw [if_pos (⟨rfl, rfl, rfl⟩ : _ ∧ _ ∧ _), if_pos ⟨rfl, rfl⟩]
  · rw [if_neg (fun g => e ((hJ.1 s (by omega)).2.2 r (by omega) g.2.2)), if_neg (fun g => e g.2)]
    exact h3
theorem wx_SEND {T σ : z_St} {A : w_A} (h : w_X T σ A) {s : Nat} (hs : s < vN A 2 0) (hl : vN A 2 0 ≤ 16) (x : Int32) : w_X T (wI σ 5 7 (vN A 17 s) x) (sI A 21 s x) := by
  obtain ⟨hT, hA, hB, hC, hD, hE, hF, hG, hH, hI, hJ, hK, hL, hM, hN⟩ := h
  refine ⟨x_T_wI hT (z_isM_dec _ rfl), hA, hB, hC, hD, hE, hF, hG, hH, hI, ⟨hJ.1, hJ.2.1, fun r hr => ?_⟩, hK, hL, hM, hN⟩
  have hr' : r < vN A 2 0 := hr
  obtain ⟨h1, h2, h3, h4, h5, h6, h7, h8⟩ := hJ.2.2 r hr'
  refine ⟨h1, h2, h3, ?_, h5, h6, h7, h8⟩
  show gI (wI σ 5 7 (vN A 17 s) x) 5 7 (vN A 17 r) = vI (sI A 21 s x) 21 r
  rw [gI_wI, vI_sI]
  by_cases e : r = s
  · subst e
    rw [if_pos (⟨rfl, rfl, rfl⟩ : _ ∧ _ ∧ _), if_pos ⟨rfl, rfl⟩]
  · rw [if_neg (fun g => e ((hJ.1 s (by omega)).2.2 r (by omega) g.2.2)), if_neg (fun g => e g.2)]
    exact h4
theorem wx_SACC {T σ : z_St} {A : w_A} (h : w_X T σ A) {s : Nat} (hs : s < vN A 2 0) (hl : vN A 2 0 ≤ 16) (x : Nat) : w_X T (wR σ 5 3 (vN A 17 s) (if x = 0 then none else some (10, x - 1))) (sN A 13 s x) := by
  obtain ⟨hT, hA, hB, hC, hD, hE, hF, hG, hH, hI, hJ, hK, hL, hM, hN⟩ := h
  refine ⟨x_T_wR hT (z_isM_dec _ rfl), hA, hB, hC, hD, hE, hF, hG, hH, hI, ⟨hJ.1, ⟨hJ.2.1.1, fun o ho => ?_⟩, fun r hr => ?_⟩, hK, hL, hM, hN⟩
  · show ∃ a : Nat, gR (wR σ 5 3 (vN A 17 s) (if x = 0 then none else some (10, x - 1))) 5 3 o = if a = 0 then none else some (10, a - 1)
    rw [gR_wR]
    by_cases e : o = vN A 17 s
    · exact ⟨x, by rw [if_pos ⟨rfl, rfl, e⟩]⟩
    · obtain ⟨a, g⟩ := hJ.2.1.2 o ho
      exact ⟨a, by rw [if_neg (fun g => e g.2.2)]; exact g⟩
  have hr' : r < vN A 2 0 := hr
  obtain ⟨h1, h2, h3, h4, h5, h6, h7, h8⟩ := hJ.2.2 r hr'
  refine ⟨h1, h2, h3, h4, ?_, h6, h7, h8⟩
  show gR (wR σ 5 3 (vN A 17 s) _) 5 3 (vN A 17 r) = if vN (sN A 13 s x) 13 r = 0 then none else some (10, vN (sN A 13 s x) 13 r - 1)
  rw [gR_wR, vN_sN]
  by_cases e : r = s
  · subst e
    rw [if_pos (⟨rfl, rfl, rfl⟩ : _ ∧ _ ∧ _), if_pos (⟨rfl, rfl⟩ : 13 = 13 ∧ r = r)]
  · rw [if_neg (fun g => e ((hJ.1 s (by omega)).2.2 r (by omega) g.2.2)), if_neg (fun g => e g.2 : ¬ (13 = 13 ∧ r = s))]
    exact h5
theorem wm_SGRANT {T σ : z_St} {A : w_A} (h : w_M T σ A) (s : Nat) (hg : ∀ r, r < 16 → ¬ vN A 16 0 = r + 1) (x : Int64) : w_M T (wJ σ 45089299 0 s x) (sJ A 5 s x) := by
  obtain ⟨hT, hA, hB, hC, hD, hG, hH, hI, hJ, hK, hL, hM, hN⟩ := h
  refine ⟨m_T_wJ hT (z_isM_yes _ rfl), hA, hB, hC, hD, hG, hH, hI, ⟨hJ.1, fun r hr => ?_⟩, hK, hL, hM, ⟨hN.1, fun r hr e => absurd e (hg r hr)⟩⟩
  have hr' : r < vN A 2 0 := hr
  obtain ⟨h1, h2, h3, h4, h5, h6, h7, h8⟩ := hJ.2 r hr'
  refine ⟨?_, h2, h3, h4, h5, h6, h7, h8⟩
  rw [gJ_wJ, vJ_sJ]
  by_cases e : r = s
  · subst e
    rw [if_pos ⟨rfl, rfl, rfl⟩, if_pos ⟨rfl, rfl⟩]
  · rw [if_neg (fun g => e g.2.2), if_neg (fun g => e g.2)]
    exact h1
theorem wm_SCOUNT {T σ : z_St} {A : w_A} (h : w_M T σ A) (s : Nat) (x : Int64) : w_M T (wJ σ 46137875 0 s x) (sJ A 6 s x) := by
  obtain ⟨hT, hA, hB, hC, hD, hG, hH, hI, hJ, hK, hL, hM, hN⟩ := h
  refine ⟨m_T_wJ hT (z_isM_yes _ rfl), hA, hB, hC, hD, hG, hH, hI, ⟨hJ.1, fun r hr => ?_⟩, hK, hL, hM, hN⟩
  have hr' : r < vN A 2 0 := hr
  obtain ⟨h1, h2, h3, h4, h5, h6, h7, h8⟩ := hJ.2 r hr'
  refine ⟨h1, ?_, h3, h4, h5, h6, h7, h8⟩
  rw [gJ_wJ, vJ_sJ]
  by_cases e : r = s
  · subst e
    rw [if_pos ⟨rfl, rfl, rfl⟩, if_pos ⟨rfl, rfl⟩]
  · rw [if_neg (fun g => e g.2.2), if_neg (fun g => e g.2)]
    exact h2
theorem wm_SPEER {T σ : z_St} {A : w_A} (h : w_M T σ A) (s : Nat) (x : Int32) : w_M T (wI σ 47186448 0 s x) (sI A 20 s x) := by
  obtain ⟨hT, hA, hB, hC, hD, hG, hH, hI, hJ, hK, hL, hM, hN⟩ := h
  refine ⟨m_T_wI hT (z_isM_yes _ rfl), hA, hB, hC, hD, hG, hH, hI, ⟨hJ.1, fun r hr => ?_⟩, hK, hL, hM, hN⟩
  have hr' : r < vN A 2 0 := hr
  obtain ⟨h1, h2, h3, h4, h5, h6, h7, h8⟩ := hJ.2 r hr'
  refine ⟨h1, h2, ?_, h4, h5, h6, h7, h8⟩
  rw [gI_wI, vI_sI]
  by_cases e : r = s
  · subst e
    rw [if_pos ⟨rfl, rfl, rfl⟩, if_pos ⟨rfl, rfl⟩]
  · rw [if_neg (fun g => e g.2.2), if_neg (fun g => e g.2)]
    exact h3
theorem wm_SEND {T σ : z_St} {A : w_A} (h : w_M T σ A) (s : Nat) (x : Int32) : w_M T (wI σ 48235024 0 s x) (sI A 21 s x) := by
  obtain ⟨hT, hA, hB, hC, hD, hG, hH, hI, hJ, hK, hL, hM, hN⟩ := h
  refine ⟨m_T_wI hT (z_isM_yes _ rfl), hA, hB, hC, hD, hG, hH, hI, ⟨hJ.1, fun r hr => ?_⟩, hK, hL, hM, hN⟩
  have hr' : r < vN A 2 0 := hr
  obtain ⟨h1, h2, h3, h4, h5, h6, h7, h8⟩ := hJ.2 r hr'
  refine ⟨h1, h2, h3, ?_, h5, h6, h7, h8⟩
  rw [gI_wI, vI_sI]
  by_cases e : r = s
  · subst e
    rw [if_pos ⟨rfl, rfl, rfl⟩, if_pos ⟨rfl, rfl⟩]
  · rw [if_neg (fun g => e g.2.2), if_neg (fun g => e g.2)]
    exact h4
theorem wm_SACC {T σ : z_St} {A : w_A} (h : w_M T σ A) (s : Nat) (x : Nat) : w_M T (wI σ 44040720 0 s (Int32.ofNat (x - 1))) (sN A 13 s x) := by
  obtain ⟨hT, hA, hB, hC, hD, hG, hH, hI, hJ, hK, hL, hM, hN⟩ := h
  refine ⟨m_T_wI hT (z_isM_yes _ rfl), hA, hB, hC, hD, hG, hH, hI, ⟨hJ.1, fun r hr => ?_⟩, hK, hL, hM, hN⟩
  have hr' : r < vN A 2 0 := hr
  obtain ⟨h1, h2, h3, h4, h5, h6, h7, h8⟩ := hJ.2 r hr'
  refine ⟨h1, h2, h3, h4, ?_, h6, h7, h8⟩
  rw [gI_wI, vN_sN]
  by_cases e : r = s
  · subst e
    rw [if_pos ⟨rfl, rfl, rfl⟩, if_pos ⟨rfl, rfl⟩]
  · rw [if_neg (fun g => e g.2.2), if_neg (fun g => e g.2)]
    exact h5
theorem xc_charge {T σ : z_St} {A : w_A} (hX : w_X T σ A) {d a : Nat} {x : Int64} {Q : z_St → Option z_V → Prop} (k : ∀ σ, w_X T σ (sJ (sJ A 1 a (vJ A 1 a - x)) 3 a (vJ A 3 a + x)) → Q σ none) : wp (zD (d + 1) 188 [.inr (.inr (some (10, a))), .inr (.inl x)] σ) Q := by
  refine wp_eq (c188 ..) (wp_eq (e188_0 ..) ?_)
  rw [rx_ABAL hX]
  refine wp_swX (wx_ABAL hX _ _) fun σ hX => ?_
  rw [rx_ACHG hX]
  exact wp_swX (wx_ACHG hX _ _) fun σ hX => wp_ret (k _ hX)
theorem xc_settle {T σ : z_St} {A : w_A} (hX : w_X T σ A) {d s : Nat} {x : Int64} (hs : s < vN A 2 0) (hl : vN A 2 0 ≤ 16) (ha : ¬ vN A 13 s = 0) {Q : z_St → Option z_V → Prop} (k : ∀ σ, w_X T σ (fn_settle A s x) → Q σ none) : wp (zD (d + 2) 236 [.inr (.inr (some (5, vN A 17 s))), .inr (.inl x)] σ) Q := by
  have ra : ∀ {σ : z_St} {B : w_A}, w_X T σ B → vN B = vN A → gR σ 5 3 (vN A 17 s) = some (10, vN A 13 s - 1) := fun {σ B} hB e => by
    have := rx_SACC hB (s := s) (by rw [e]; exact hs)
    rw [e, if_neg ha] at this
    exact this
  refine wp_eq (c236 ..) (wp_eq (e236_0 ..) (wp_dr (ra hX rfl) (wp_gd rfl ?_)))
  rw [rx_SGRANT hX hs]
  refine wp_cv (xc_charge hX fun σ hX => ⟨rfl, wp_dr (ra hX rfl) (wp_gd rfl (wp_dr (ra hX rfl) (wp_gd rfl ?_)))⟩)
  dsimp only
  rw [rx_ARES hX, show gJ σ 5 4 (vN A 17 s) = _ from rx_SGRANT hX (s := s) hs]
  refine wp_swX (wx_ARES hX _ _) fun σ hX => wp_swX (wx_SGRANT hX (s := s) hs hl _) fun σ hX => wp_ret (k _ (X_cv hX ?_))
  rfl
