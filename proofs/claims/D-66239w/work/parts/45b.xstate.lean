/-! PART 45b (src 45b.xstate.src): the component's connections; messages of the node's own -/
set_option maxHeartbeats 200000
theorem xc_close {T σ : z_St} {A : w_A} (hX : w_X T σ A) {d c : Nat} {Q : z_St → Option z_V → Prop} (k : ∀ σ, w_X T σ (fn_close A c) → Q σ none) : wp (zD (d + 1) 193 [.inr (.inr (some (4, c)))] σ) Q := by
  refine wp_eq (c193 ..) (wp_eq (e193_0 ..) ?_)
  refine wp_swX (wx_CST hX _ _) fun σ hX => wp_swX (wx_CPEER0 hX _) fun σ hX => wp_swX (wx_CROLE0 hX _) fun σ hX => wp_swX (wx_INL0 hX _) fun σ hX => wp_ret (k _ (X_cv hX ?_))
  unfold fn_close
  simp only [ev_or, Nat.reduceLT]
theorem xc_fresh {T σ : z_St} {A : w_A} (hX : w_X T σ A) {d c : Nat} {s : Int32} {Q : z_St → Option z_V → Prop} (k : ∀ σ, w_X T σ (fn_fresh A c s 0 0) → Q σ none) : wp (zD (d + 1) 192 [.inr (.inr (some (4, c))), .inl s, .inr (.inr none)] σ) Q := by
  refine wp_eq (c192 ..) (wp_eq (e192_0 ..) ?_)
  refine wp_swX (wx_CST hX _ _) fun σ hX => wp_swX (wx_CPEER0 hX _) fun σ hX => ?_
  rw [if_pos rfl]
  refine wp_eq (e192_2 ..) (wp_eq (e192_3 ..) (wp_dr rfl (wp_gd rfl ?_)))
  refine wp_gd (.inl rfl) ?_
  refine wp_swX (wx_CROLE0 hX _) fun σ hX => wp_swX (wx_INL0 hX _) fun σ hX => wp_sw (wp_sw (wp_ret (k _ (X_cv (x_Q0 hX c) ?_))))
  unfold fn_fresh
  simp only [ev_or, Nat.reduceLT]
theorem xc_freshOwn {T σ : z_St} {A : w_A} (hX : w_X T σ A) {d c p : Nat} {s : Int32} {Q : z_St → Option z_V → Prop} (k : ∀ σ, w_X T σ (fn_fresh A c s (p + 1) 1) → Q σ none) : wp (zD (d + 1) 192 [.inr (.inr (some (4, c))), .inl s, .inr (.inr (some (9, p)))] σ) Q := by
  refine wp_eq (c192 ..) (wp_eq (e192_0 ..) ?_)
  refine wp_swX (wx_CST hX _ _) fun σ hX => wp_swX (wx_CPEERs hX _ _) fun σ hX => ?_
  rw [if_neg (by simp)]
  refine wp_eq (e192_1 ..) (wp_eq (e192_3 ..) (wp_dr rfl (wp_gd rfl ?_)))
  refine wp_gd (.inr rfl) ?_
  refine wp_swX (wx_CROLE1 hX _) fun σ hX => wp_swX (wx_INL0 hX _) fun σ hX => wp_sw (wp_sw (wp_ret (k _ (X_cv (x_Q0 hX c) ?_))))
  unfold fn_fresh
  simp only [ev_or, Nat.reduceLT]
theorem xc_closeOwn {T σ : z_St} {A : w_A} (hX : w_X T σ A) {d p : Nat} {Q : z_St → Option z_V → Prop} (k : ∀ σ, w_X T σ (fn_closeOwn A p) → Q σ none) : wp (zD (d + 2) 20 [.inr (.inr (some (9, p)))] σ) Q := by
  refine wp_eq (c20 ..) (wp_eq (e20_0 ..) (wp_dr rfl (wp_gd rfl ?_)))
  refine wp_if (fun hc => ?_) (fun hc => ?_) <;> rw [rx_OWN hX, z_one_n] at hc
  · refine wp_eq (e20_2 ..) (wp_dr rfl (wp_gd rfl (wp_swX (wx_OWN0 hX _) fun σ hX => wp_ret (k _ (X_cv hX ?_)))))
    unfold fn_closeOwn
    rw [if_pos hc]
    exact sN_id A hc
  · refine wp_eq (e20_1 ..) (wp_dr rfl (wp_gd rfl ?_))
    rw [rx_OWN hX, z_one_s hc]
    refine wp_dr rfl (wp_gd rfl (wp_cv (xc_close hX fun σ hX => ⟨rfl, ?_⟩)))
    refine wp_eq (e20_2 ..) (wp_dr rfl (wp_gd rfl (wp_swX (wx_OWN0 hX _) fun σ hX => wp_ret (k _ (X_cv hX ?_)))))
    unfold fn_closeOwn
    rw [if_neg hc]
theorem xc_closeCame {T σ : z_St} {A : w_A} (hX : w_X T σ A) {d p : Nat} {Q : z_St → Option z_V → Prop} (k : ∀ σ, w_X T σ (fn_closeCame A p) → Q σ none) : wp (zD (d + 2) 21 [.inr (.inr (some (9, p)))] σ) Q := by
  refine wp_eq (c21 ..) (wp_eq (e21_0 ..) (wp_dr rfl (wp_gd rfl ?_)))
  refine wp_if (fun hc => ?_) (fun hc => ?_) <;> rw [rx_CAME hX, z_one_n] at hc
  · refine wp_eq (e21_2 ..) (wp_dr rfl (wp_gd rfl (wp_swX (wx_CAME0 hX _) fun σ hX => wp_ret (k _ (X_cv hX ?_)))))
    unfold fn_closeCame
    rw [if_pos hc]
    exact sN_id A hc
  · refine wp_eq (e21_1 ..) (wp_dr rfl (wp_gd rfl ?_))
    rw [rx_CAME hX, z_one_s hc]
    refine wp_dr rfl (wp_gd rfl (wp_cv (xc_close hX fun σ hX => ⟨rfl, ?_⟩)))
    refine wp_eq (e21_2 ..) (wp_dr rfl (wp_gd rfl (wp_swX (wx_CAME0 hX _) fun σ hX => wp_ret (k _ (X_cv hX ?_)))))
    unfold fn_closeCame
    rw [if_neg hc]
/-- what a message of the node's own has in its bounds -/
theorem xc_sendOpening {T σ : z_St} {A : w_A} (hX : w_X T σ A) {d p n : Nat} (hB : z_B n A) (ho : ¬ vN A 9 p = 0) {Q : z_St → Option z_V → Prop} (k : ∀ σ, w_X T σ (fn_sendOpening A p) → Q σ none) : wp (zD (d + 5) 13 [.inr (.inr (some (0, 0))), .inr (.inr (some (9, p)))] σ) Q := by
  obtain ⟨hH1, hH2⟩ := hB.2.2.2.2.2.2.2.1
  have hO := (hB.2.2.1 p).1
  refine wp_eq (c13 ..) (wp_eq (e13_0 ..) ?_)
  refine wp_cv (xc_request hX fun σ hX => ⟨rfl, wp_dr rfl (wp_gd rfl ?_)⟩)
  rw [rx_HOPS hX]
  refine wp_swX (wx_OHOP hX _ _) fun σ hX => ?_
  rw [sI_page] at hX
  refine cvX (fun Q' k => xc_origin hX hH1 (by simp only [fn_page_PG, List.length_append, fn_hd_len, fn_num_len, fn_me_len, fn_addr_len, fn_txt_len, fn_attr_len, b4_len, fn_me_sI, fn_me_sN, fn_me_sJ, fn_me_page, fn_hop] <;> omega) (by simp only [fn_page_PG, List.length_append, fn_hd_len, fn_num_len, fn_me_len, fn_addr_len, fn_txt_len, fn_attr_len, b4_len, fn_me_sI, fn_me_sN, fn_me_sJ, fn_me_page, fn_hop] <;> omega) k) fun σ hX => ?_
  refine cvX (fun Q' k => xc_capab hX (by simp only [fn_page_PG, List.length_append, fn_hd_len, fn_num_len, fn_me_len, fn_addr_len, fn_txt_len, fn_attr_len, b4_len, fn_me_sI, fn_me_sN, fn_me_sJ, fn_me_page, fn_hop] <;> omega) (by simp only [fn_page_PG, List.length_append, fn_hd_len, fn_num_len, fn_me_len, fn_addr_len, fn_txt_len, fn_attr_len, b4_len, fn_me_sI, fn_me_sN, fn_me_sJ, fn_me_page, fn_hop] <;> omega) k) fun σ hX => wp_dr rfl (wp_gd rfl ?_)
  rw [rx_OWN hX, vN_page, vN_sI, fn_hop, vN_sN, if_neg (fun e => absurd e.1 (by decide)), z_one_s ho]
  refine wp_cv (xc_send hX (by omega) (by omega) (by simp only [fn_page_PG, List.length_append, fn_hd_len, fn_num_len, fn_me_len, fn_addr_len, fn_txt_len, fn_attr_len, b4_len, fn_me_sI, fn_me_sN, fn_me_sJ, fn_me_page, fn_hop] <;> omega) (by simp only [fn_page_PG, List.length_append, fn_hd_len, fn_num_len, fn_me_len, fn_addr_len, fn_txt_len, fn_attr_len, b4_len, fn_me_sI, fn_me_sN, fn_me_sJ, fn_me_page, fn_hop] <;> omega) (by simp only [fn_page_PG, fn_me_sI, fn_me_sN, fn_me_sJ, fn_me_page, fn_hop]; repeat' (first | with_reducible exact fn_hd_by _ _ _ _ _ | with_reducible exact fn_num_by _ _ | with_reducible exact fn_addr_by | with_reducible exact fn_attr_by _ _ | with_reducible exact b4_by _ | with_reducible exact fn_me_by (by assumption) | with_reducible exact fn_txt_by _ (by assumption) | with_reducible refine z_by_app ?_ ?_)) fun σ hX => ⟨rfl, wp_ret (k _ (X_cv hX ?_))⟩)
  rfl
theorem xc_sendWatch {T σ : z_St} {A : w_A} (hX : w_X T σ A) {d p n : Nat} (hB : z_B n A) (hu : fn_up A p) (h5 : vI A 0 p = 5 → ¬ vN A 10 p = 0) (h6 : vI A 0 p = 6 → ¬ vN A 9 p = 0) {Q : z_St → Option z_V → Prop} (k : ∀ σ, w_X T σ (fn_sendWatch A p) → Q σ none) : wp (zD (d + 5) 14 [.inr (.inr (some (0, 0))), .inr (.inr (some (9, p)))] σ) Q := by
  obtain ⟨hH1, hH2⟩ := hB.2.2.2.2.2.2.2.1
  obtain ⟨hO, hC⟩ := hB.2.2.1 p
  have hcn : fn_conn A p ≤ 8 ∧ ¬ fn_conn A p = 0 := by
    unfold fn_conn
    rcases hu with h | h
    · have := h5 h
      simp [h, this, hC]
    · have := h6 h
      simp [h, this, hO]
  refine wp_eq (c14 ..) (wp_eq (e14_0 ..) ?_)
  refine wp_cv (xc_request hX fun σ hX => ⟨rfl, wp_dr rfl (wp_gd rfl ?_)⟩)
  rw [rx_HOPS hX]
  refine wp_swX (wx_WHOP hX _ _) fun σ hX => wp_dr rfl (wp_gd rfl (wp_swX (wx_AWAIT hX _ _) fun σ hX => ?_))
  rw [sI_page, sI_page] at hX
  refine cvX (fun Q' k => xc_origin hX hH1 (by simp only [fn_page_PG, List.length_append, fn_hd_len, fn_num_len, fn_me_len, fn_addr_len, fn_txt_len, fn_attr_len, b4_len, fn_me_sI, fn_me_sN, fn_me_sJ, fn_me_page, fn_hop] <;> omega) (by simp only [fn_page_PG, List.length_append, fn_hd_len, fn_num_len, fn_me_len, fn_addr_len, fn_txt_len, fn_attr_len, b4_len, fn_me_sI, fn_me_sN, fn_me_sJ, fn_me_page, fn_hop] <;> omega) k) fun σ hX => ?_
  rw [rx_p0_4 hX]
  refine wp_dr rfl (wp_gd rfl ?_)
  refine cvX (fun Q' k => xc_num hX (by simp only [fn_page_PG, List.length_append, fn_hd_len, fn_num_len, fn_me_len, fn_addr_len, fn_txt_len, fn_attr_len, b4_len, fn_me_sI, fn_me_sN, fn_me_sJ, fn_me_page, fn_hop] <;> omega) k) fun σ hX => wp_dr rfl (wp_gd rfl ?_)
  refine wp_cr (xc_link hX hu h5 (c := fn_conn A p) rfl hcn.2 fun σ v hX hv => ⟨_, hv, ?_⟩)
  refine wp_cv (xc_send hX (by omega) hcn.1 (by simp only [fn_page_PG, List.length_append, fn_hd_len, fn_num_len, fn_me_len, fn_addr_len, fn_txt_len, fn_attr_len, b4_len, fn_me_sI, fn_me_sN, fn_me_sJ, fn_me_page, fn_hop] <;> omega) (by simp only [fn_page_PG, List.length_append, fn_hd_len, fn_num_len, fn_me_len, fn_addr_len, fn_txt_len, fn_attr_len, b4_len, fn_me_sI, fn_me_sN, fn_me_sJ, fn_me_page, fn_hop] <;> omega) (by simp only [fn_page_PG, fn_me_sI, fn_me_sN, fn_me_sJ, fn_me_page, fn_hop]; repeat' (first | with_reducible exact fn_hd_by _ _ _ _ _ | with_reducible exact fn_num_by _ _ | with_reducible exact fn_addr_by | with_reducible exact fn_attr_by _ _ | with_reducible exact b4_by _ | with_reducible exact fn_me_by (by assumption) | with_reducible exact fn_txt_by _ (by assumption) | with_reducible refine z_by_app ?_ ?_)) fun σ hX => ⟨rfl, wp_ret (k _ (X_cv hX ?_))⟩)
  rfl
theorem xc_answerHead {T σ : z_St} {A : w_A} (hX : w_X T σ A) {d : Nat} {fl cmd app h e r : Int32} {Q : z_St → Option z_V → Prop} (k : ∀ σ, w_X T σ (fn_page A (fn_hd ((fl &&& 64) ||| (if r / 1000 = 3 then 32 else 0)) cmd app h e)) → Q σ none) : wp (zD (d + 3) 15 [.inr (.inr (some (0, 0))), .inl fl, .inl cmd, .inl app, .inl h, .inl e, .inl r] σ) Q := by
  refine wp_eq (c15 ..) (wp_eq (e15_0 ..) ?_)
  refine wp_if (fun hc => ?_) (fun hc => ?_)
  · refine wp_eq (e15_1 ..) (wp_eq (e15_3 ..) (wp_dr (rx_p0_4 hX) (wp_gd rfl (wp_cv (xc_begin hX fun σ hX => ⟨rfl, wp_ret (k _ ?_)⟩)))))
    rw [if_pos hc]
    exact hX
  · refine wp_eq (e15_2 ..) (wp_eq (e15_3 ..) (wp_dr (rx_p0_4 hX) (wp_gd rfl (wp_cv (xc_begin hX fun σ hX => ⟨rfl, wp_ret (k _ ?_)⟩)))))
    rw [if_neg hc]
    exact hX
theorem xc_answerCame {T σ : z_St} {A : w_A} (hX : w_X T σ A) {d p n : Nat} (hB : z_B n A) (hz : ¬ vN A 10 p = 0) {Q : z_St → Option z_V → Prop} (k : ∀ σ, w_X T σ (fn_answerCame A p) → Q σ none) : wp (zD (d + 5) 19 [.inr (.inr (some (0, 0))), .inr (.inr (some (9, p)))] σ) Q := by
  obtain ⟨hH1, hH2⟩ := hB.2.2.2.2.2.2.2.1
  have hC := (hB.2.2.1 p).2
  refine wp_eq (c19 ..) (wp_eq (e19_0 ..) (wp_dr rfl (wp_gd rfl (wp_dr rfl (wp_gd rfl (wp_dr rfl (wp_gd rfl ?_)))))))
  rw [rx_CFL hX, rx_CHOP hX, rx_CEND hX]
  refine wp_cv (xc_answerHead hX fun σ hX => ⟨rfl, wp_dr (rx_p0_4 hX) (wp_gd rfl ?_)⟩)
  refine cvX (fun Q' k => xc_num hX (by simp only [fn_page_PG, List.length_append, fn_hd_len, fn_num_len, fn_me_len, fn_addr_len, fn_txt_len, fn_attr_len, b4_len, fn_me_sI, fn_me_sN, fn_me_sJ, fn_me_page, fn_hop] <;> omega) k) fun σ hX => ?_
  refine cvX (fun Q' k => xc_origin hX hH1 (by simp only [fn_page_PG, List.length_append, fn_hd_len, fn_num_len, fn_me_len, fn_addr_len, fn_txt_len, fn_attr_len, b4_len, fn_me_sI, fn_me_sN, fn_me_sJ, fn_me_page, fn_hop] <;> omega) (by simp only [fn_page_PG, List.length_append, fn_hd_len, fn_num_len, fn_me_len, fn_addr_len, fn_txt_len, fn_attr_len, b4_len, fn_me_sI, fn_me_sN, fn_me_sJ, fn_me_page, fn_hop] <;> omega) k) fun σ hX => ?_
  refine cvX (fun Q' k => xc_capab hX (by simp only [fn_page_PG, List.length_append, fn_hd_len, fn_num_len, fn_me_len, fn_addr_len, fn_txt_len, fn_attr_len, b4_len, fn_me_sI, fn_me_sN, fn_me_sJ, fn_me_page, fn_hop] <;> omega) (by simp only [fn_page_PG, List.length_append, fn_hd_len, fn_num_len, fn_me_len, fn_addr_len, fn_txt_len, fn_attr_len, b4_len, fn_me_sI, fn_me_sN, fn_me_sJ, fn_me_page, fn_hop] <;> omega) k) fun σ hX => wp_dr rfl (wp_gd rfl ?_)
  rw [rx_CAME hX, vN_page, z_one_s hz]
  refine wp_cv (xc_send hX (by omega) hC (by simp only [fn_page_PG, List.length_append, fn_hd_len, fn_num_len, fn_me_len, fn_addr_len, fn_txt_len, fn_attr_len, b4_len, fn_me_sI, fn_me_sN, fn_me_sJ, fn_me_page, fn_hop] <;> omega) (by simp only [fn_page_PG, List.length_append, fn_hd_len, fn_num_len, fn_me_len, fn_addr_len, fn_txt_len, fn_attr_len, b4_len, fn_me_sI, fn_me_sN, fn_me_sJ, fn_me_page, fn_hop] <;> omega) (by simp only [fn_page_PG, fn_me_sI, fn_me_sN, fn_me_sJ, fn_me_page, fn_hop]; repeat' (first | with_reducible exact fn_hd_by _ _ _ _ _ | with_reducible exact fn_num_by _ _ | with_reducible exact fn_addr_by | with_reducible exact fn_attr_by _ _ | with_reducible exact b4_by _ | with_reducible exact fn_me_by (by assumption) | with_reducible exact fn_txt_by _ (by assumption) | with_reducible refine z_by_app ?_ ?_)) fun σ hX => ⟨rfl, wp_ret (k _ (X_cv hX ?_))⟩)
  unfold fn_answerCame
  rw [if_neg (by decide), Int32.or_zero]
  rfl
