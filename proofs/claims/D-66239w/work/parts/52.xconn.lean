/-! PART 52 (src 52.xconn.src): the component's connections: closed, answered, begun -/
set_option maxHeartbeats 400000
theorem closeOwn_N (A : w_A) (p : Nat) {v : Nat} (h1 : v ≠ 9) (h2 : v ≠ 11) (h3 : v ≠ 14) (j : Nat) : vN (fn_closeOwn A p) v j = vN A v j := by
  unfold fn_closeOwn
  split
  · rfl
  · rw [vN_sN, if_neg (fun e => h1 e.1), fn_close, vN_sN, if_neg (fun e => h3 e.1), vN_sN, if_neg (fun e => h2 e.1)]
    rfl
theorem closeCame_N (A : w_A) (p : Nat) {v : Nat} (h1 : v ≠ 10) (h2 : v ≠ 11) (h3 : v ≠ 14) (j : Nat) : vN (fn_closeCame A p) v j = vN A v j := by
  unfold fn_closeCame
  split
  · rfl
  · rw [vN_sN, if_neg (fun e => h1 e.1), fn_close, vN_sN, if_neg (fun e => h3 e.1), vN_sN, if_neg (fun e => h2 e.1)]
    rfl
theorem closeOwn_I (A : w_A) (p : Nat) {v : Nat} (h1 : v ≠ 12) (h2 : v ≠ 13) (j : Nat) : vI (fn_closeOwn A p) v j = vI A v j := by
  unfold fn_closeOwn
  split
  · rfl
  · rw [vI_sN, fn_close, vI_sN, vI_sN, vI_sI, if_neg (fun e => h2 e.1), vI_sI, if_neg (fun e => h1 e.1)]
theorem closeCame_I (A : w_A) (p : Nat) {v : Nat} (h1 : v ≠ 12) (h2 : v ≠ 13) (j : Nat) : vI (fn_closeCame A p) v j = vI A v j := by
  unfold fn_closeCame
  split
  · rfl
  · rw [vI_sN, fn_close, vI_sN, vI_sN, vI_sI, if_neg (fun e => h2 e.1), vI_sI, if_neg (fun e => h1 e.1)]
theorem closeOwn_L (A : w_A) (p v j : Nat) : vL (fn_closeOwn A p) v j = vL A v j := by unfold fn_closeOwn; split <;> rfl
theorem closeCame_L (A : w_A) (p v j : Nat) : vL (fn_closeCame A p) v j = vL A v j := by unfold fn_closeCame; split <;> rfl
theorem xc_shut {T σ : z_St} {A : w_A} (hX : w_X T σ A) {d p n : Nat} (hI : z_Ip n p A) (hn : n + 64 < 2147483648) {Q : z_St → Option z_V → Prop} (k : ∀ σ, w_X T σ (fn_shut A p) → Q σ none) : wp (zD (d + 9) 25 [.inr (.inr (some (0, 0))), .inr (.inr (some (9, p)))] σ) Q := by
  refine wp_eq (c25 ..) (wp_eq (e25_0 ..) (wp_cv (xc_closeOwn hX fun σ hX => ⟨rfl, wp_cv (xc_closeCame hX fun σ hX => ⟨rfl, ?_⟩)⟩)))
  exact wp_cv (xc_enter hX (Ip_closeCame (Ip_closeOwn hI)) (fun h => absurd h (by decide)) (fun h => absurd h (by decide)) hn fun σ hX => ⟨rfl, wp_ret (k _ hX)⟩)
theorem shut_Inv {n p : Nat} {A : w_A} (hI : z_Ip n p A) (hn : n + 64 < 2147483648) : z_I (n + 64) (fn_shut A p) := enter_Inv (Ip_closeCame (Ip_closeOwn hI)) (fun h => absurd h (by decide)) (fun h => absurd h (by decide)) hn
theorem ansCame_CAME (A : w_A) (p q : Nat) : vN (fn_answerCame A p) 10 q = vN A 10 q := by unfold fn_answerCame; rw [vN_send]; rfl
theorem opened_Inv {n p : Nat} {A : w_A} (hI : z_Ip n p A) (hz : ¬ vN A 10 p = 0) (hn : n + 64 < 2147483648) : z_I (n + 64) (fn_opened A p) := enter_Inv (Ip_ansCame hI) (fun _ => by rw [ansCame_CAME]; exact hz) (fun h => absurd h (by decide)) hn
theorem xc_opened {T σ : z_St} {A : w_A} (hX : w_X T σ A) {d p n : Nat} (hI : z_Ip n p A) (hz : ¬ vN A 10 p = 0) (hn : n + 64 < 2147483648) {Q : z_St → Option z_V → Prop} (k : ∀ σ, w_X T σ (fn_opened A p) → Q σ none) : wp (zD (d + 9) 26 [.inr (.inr (some (0, 0))), .inr (.inr (some (9, p)))] σ) Q := by
  refine wp_eq (c26 ..) (wp_eq (e26_0 ..) (wp_cv (xc_answerCame hX hI.1 hz fun σ hX => ⟨rfl, ?_⟩)))
  exact wp_cv (xc_enter hX (Ip_ansCame hI) (fun _ => by rw [ansCame_CAME]; exact hz) (fun h => absurd h (by decide)) hn fun σ hX => ⟨rfl, wp_ret (k _ hX)⟩)
/-- the names' octets -/
def z_LT (A : w_A) : Prop := z_let (vL A 1 0) ∧ ∀ p, z_let (vL A 2 p)
theorem xc_choose {T σ : z_St} {A : w_A} (hX : w_X T σ A) {d p n : Nat} (hp : p < 4) (hI : z_Ip n p A) (hT : z_LT A) (hz : ¬ vN A 10 p = 0) (hn : n + 64 < 2147483648) {Q : z_St → Option z_V → Prop} (k : ∀ σ, w_X T σ (fn_choose A p) → Q σ none) : wp (zD (d + 10) 27 [.inr (.inr (some (0, 0))), .inr (.inr (some (9, p)))] σ) Q := by
  refine wp_eq (c27 ..) (wp_eq (e27_0 ..) (wp_dr rfl (wp_gd rfl (wp_dr (rx_p0_1 hX) (wp_gd rfl ?_)))))
  dsimp only
  rw [rx_p9_1 hX]
  refine wp_cr (xc_later hX hp hI.1.2.2.2.2.2.2.2.1 (hI.1.2.2.2.2.2.2.2.2.1 p) hT.1 (hT.2 p) fun v hv => ⟨_, hv, wp_asI0 ?_⟩)
  refine wp_if (fun hc => ?_) (fun hc => ?_) <;> rw [b2i_0] at hc
  · refine wp_eq (e27_2 ..) (wp_cv (xc_enter hX hI (fun h => absurd h (by decide)) (fun h => absurd h (by decide)) hn fun σ hX => ⟨rfl, wp_eq (e27_3 ..) (wp_ret (k _ (X_cv hX ?_)))⟩))
    unfold fn_choose
    rw [if_neg hc]
  · have hc := Decidable.not_not.mp hc
    refine wp_eq (e27_1 ..) (wp_cv (xc_closeOwn hX fun σ hX => ⟨rfl, ?_⟩))
    refine wp_cv (xc_opened hX (Ip_closeOwn hI) (by rw [closeOwn_N _ _ (by decide) (by decide) (by decide)]; exact hz) hn fun σ hX => ⟨rfl, wp_eq (e27_3 ..) (wp_ret (k _ (X_cv hX ?_)))⟩)
    unfold fn_choose
    rw [if_pos hc]
theorem choose_Inv {n p : Nat} {A : w_A} (hI : z_Ip n p A) (hz : ¬ vN A 10 p = 0) (hn : n + 64 < 2147483648) : z_I (n + 64) (fn_choose A p) := by
  unfold fn_choose
  split
  · exact opened_Inv (Ip_closeOwn hI) (by rw [closeOwn_N _ _ (by decide) (by decide) (by decide)]; exact hz) hn
  · exact enter_Inv hI (fun h => absurd h (by decide)) (fun h => absurd h (by decide)) hn
/-- a connection is gone: where its peer has another, that is known -/
theorem xc_endc {T σ : z_St} {A : w_A} (hX : w_X T σ A) {d c n : Nat} (hI : z_I n A) (hz : ∀ p, vN A 11 c = p + 1 → vI A 13 c = 1 → (vI A 0 p = 3 ∨ vI A 0 p = 4) → ¬ vN A 10 p = 0) (hn : n + 64 < 2147483648) {Q : z_St → Option z_V → Prop} (k : ∀ σ, w_X T σ (fn_end A c) → Q σ none) : wp (zD (d + 10) 28 [.inr (.inr (some (0, 0))), .inr (.inr (some (4, c)))] σ) Q := by
  refine wp_eq (c28 ..) (wp_eq (e28_0 ..) (wp_dr rfl (wp_gd rfl (wp_dr rfl (wp_gd rfl ?_)))))
  dsimp only
  refine wp_if (fun hc => ?_) (fun hc => ?_) <;> rw [rx_CPEER hX, z_per_n] at hc
  · refine wp_eq (e28_1 ..) (wp_dr rfl (wp_gd rfl (wp_cv (xc_close hX fun σ hX => ⟨rfl, wp_ret (k _ (X_cv hX ?_))⟩))))
    unfold fn_end
    rw [if_pos hc]
  · rw [rx_CPEER hX, z_per_p hc, rx_CROLE hX]
    generalize hp : vN A 11 c - 1 = p
    have hcp : vN A 11 c = p + 1 := by omega
    have hs0 : vI (fn_closeOwn A p) 0 p = vI A 0 p := closeOwn_I A p (by decide) (by decide) p
    have hs1 : vI (fn_closeCame A p) 0 p = vI A 0 p := closeCame_I A p (by decide) (by decide) p
    refine wp_eq (e28_2 ..) (wp_if (fun hr => ?_) (fun hr => ?_)) <;> rw [b2i_0] at hr
    · have ef : fn_end A c = (if vI A 0 p = 3 then fn_enter (fn_closeCame A p) p 1 else if vI A 0 p = 4 then fn_enter (fn_closeCame A p) p 2 else fn_shut (fn_closeCame A p) p) := by
        unfold fn_end
        rw [if_neg hc]
        dsimp only
        rw [hp, if_neg hr, if_neg hr, if_neg hr]
      rw [ef] at k
      refine wp_eq (e28_4 ..) (wp_cv (xc_closeCame hX fun σ hX => ⟨rfl, ?_⟩))
      refine wp_eq (e28_5 ..) (wp_dr rfl (wp_gd rfl ?_))
      dsimp only
      refine wp_if (fun h3 => ?_) (fun h3 => ?_) <;> rw [rx_ST hX, hs1] at h3
      · rw [if_pos h3] at k
        refine wp_eq (e28_6 ..) ?_
        rw [if_pos (by rw [b2i_0]; exact hr)]
        exact wp_eq (e28_8 ..) (wp_cv (xc_enter hX (Ip_closeCame (I_p hI p)) (fun h => absurd h (by decide)) (fun h => absurd h (by decide)) hn fun σ hX => ⟨rfl, wp_eq (e28_13 ..) (wp_ret (k _ hX))⟩))
      · rw [if_neg h3] at k
        refine wp_if (fun h4 => ?_) (fun h4 => ?_) <;> rw [rx_ST hX, hs1] at h4
        · rw [if_pos h4] at k
          refine wp_eq (e28_9 ..) ?_
          rw [if_pos (by rw [b2i_0]; exact hr)]
          exact wp_eq (e28_11 ..) (wp_cv (xc_enter hX (Ip_closeCame (I_p hI p)) (fun h => absurd h (by decide)) (fun h => absurd h (by decide)) hn fun σ hX => ⟨rfl, wp_eq (e28_13 ..) (wp_ret (k _ hX))⟩))
        · rw [if_neg h4] at k
          exact wp_eq (e28_12 ..) (wp_cv (xc_shut hX (Ip_closeCame (I_p hI p)) hn fun σ hX => ⟨rfl, wp_eq (e28_13 ..) (wp_ret (k _ hX))⟩))
    · have hr := Decidable.not_not.mp hr
      have ef : fn_end A c = (if vI A 0 p = 3 then fn_opened (fn_closeOwn A p) p else if vI A 0 p = 4 then fn_opened (fn_closeOwn A p) p else fn_shut (fn_closeOwn A p) p) := by
        unfold fn_end
        rw [if_neg hc]
        dsimp only
        rw [hp, if_pos hr, if_pos hr, if_pos hr]
      rw [ef] at k
      refine wp_eq (e28_3 ..) (wp_cv (xc_closeOwn hX fun σ hX => ⟨rfl, ?_⟩))
      refine wp_eq (e28_5 ..) (wp_dr rfl (wp_gd rfl ?_))
      dsimp only
      have hcm : ∀ h : vI A 0 p = 3 ∨ vI A 0 p = 4, ¬ vN (fn_closeOwn A p) 10 p = 0 := fun h => by rw [closeOwn_N _ _ (by decide) (by decide) (by decide)]; exact hz p hcp hr h
      refine wp_if (fun h3 => ?_) (fun h3 => ?_) <;> rw [rx_ST hX, hs0] at h3
      · rw [if_pos h3] at k
        refine wp_eq (e28_6 ..) ?_
        rw [if_neg (by rw [b2i_0]; exact fun h => h hr)]
        exact wp_eq (e28_7 ..) (wp_cv (xc_opened hX (Ip_closeOwn (I_p hI p)) (hcm (.inl h3)) hn fun σ hX => ⟨rfl, wp_eq (e28_13 ..) (wp_ret (k _ hX))⟩))
      · rw [if_neg h3] at k
        refine wp_if (fun h4 => ?_) (fun h4 => ?_) <;> rw [rx_ST hX, hs0] at h4
        · rw [if_pos h4] at k
          refine wp_eq (e28_9 ..) ?_
          rw [if_neg (by rw [b2i_0]; exact fun h => h hr)]
          exact wp_eq (e28_10 ..) (wp_cv (xc_opened hX (Ip_closeOwn (I_p hI p)) (hcm (.inr h4)) hn fun σ hX => ⟨rfl, wp_eq (e28_13 ..) (wp_ret (k _ hX))⟩))
        · rw [if_neg h4] at k
          exact wp_eq (e28_12 ..) (wp_cv (xc_shut hX (Ip_closeOwn (I_p hI p)) hn fun σ hX => ⟨rfl, wp_eq (e28_13 ..) (wp_ret (k _ hX))⟩))
theorem xc_begin_ {T σ : z_St} {A : w_A} (hX : w_X T σ A) {d p c n : Nat} (hp : p < 4) (hc0 : ¬ c = 0) (hc : c ≤ 8) (hI : z_I n A) (hn : n + 64 < 2147483648) {Q : z_St → Option z_V → Prop} (k : ∀ σ, w_X T σ (fn_begin A p c) → Q σ none) : wp (zD (d + 9) 29 [.inr (.inr (some (0, 0))), .inr (.inr (some (9, p))), .inr (.inr (some (4, c)))] σ) Q := by
  have h1 : z_Ip n p (sN (fn_fresh A c 1 (p + 1) 1) 9 p c) := by
    unfold fn_fresh
    refine Ip_OWN ?_ hc
    have := Ip_INL (Ip_CPEER (Ip_sI (Ip_sI (I_p hI p) (v := 12) (by decide) (by decide) (by decide) (by decide) (by decide) c 1) (v := 13) (by decide) (by decide) (by decide) (by decide) (by decide) c 1) c (show p + 1 ≤ 4 by omega)) c (show 0 < 600 by omega)
    exact this
  refine wp_eq (c29 ..) (wp_eq (e29_0 ..) (wp_dr rfl (wp_gd rfl (wp_cv (xc_freshOwn hX fun σ hX => ⟨rfl, wp_dr rfl (wp_gd rfl ?_)⟩)))))
  dsimp only
  refine wp_swX (wx_OWNs hX _ hc0) fun σ hX => ?_
  exact wp_cv (xc_enter hX h1 (fun h => absurd h (by decide)) (fun h => absurd h (by decide)) hn fun σ hX => ⟨rfl, wp_ret (k _ hX)⟩)
