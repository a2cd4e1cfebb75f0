/-! PART 48 (src 48.xput.src): the component's questions go -/
set_option maxHeartbeats 400000
def fn_putA (A : w_A) (i b : Nat) : w_A := sN (sN (sI (sI (sI (fn_hop A) 15 i (vI A 15 i + 1)) 16 i (fn_nh A)) 17 i (if vI A 17 i = 0 then fn_nh A else vI A 17 i)) 12 i (b + 1)) 19 i (fn_conn A b)
theorem xc_put_ {T σ : z_St} {A : w_A} (hX : w_X T σ A) {d n i b : Nat} {x3 : Int32} (hB : z_B n A) (hL : z_LK A) (hi : i < 64) (hu : fn_up A b) (hf : (128 ||| (64 ||| x3)) = if vI A 15 i = 0 then 192 else 208) {Q : z_St → Option z_V → Prop} (k : ∀ σ, w_X T σ (fn_put A i b) → Q σ none) : wp (zD (d + 5) 45 [.inr (.inr (some (0, 0))), .inr (.inr (some (6, i))), .inr (.inr (some (9, b))), .inl x3] σ) Q := by
  obtain ⟨hH1, hH2⟩ := hB.2.2.2.2.2.2.2.1
  obtain ⟨⟨hn1, hn2⟩, ⟨hm1, hm2⟩, hr1, hr2⟩ := hB.2.2.2.2.2.2.2.2.2.1 i
  have hcn := LK_conn hB hL hu
  refine wp_eq (c45 ..) (wp_eq (e45_0 ..) (wp_dr rfl (wp_gd rfl ?_)))
  dsimp only
  rw [rx_QEND hX]
  refine wp_cv (xc_request hX fun σ hX => ⟨rfl, wp_dr rfl (wp_gd rfl ?_)⟩)
  rw [hf] at hX
  dsimp only
  refine wp_swX (wx_QPEERs hX _ _) fun σ hX => wp_dr rfl (wp_gd rfl (wp_dr rfl (wp_gd rfl ?_)))
  dsimp only
  rw [rx_QTIMES hX]
  refine wp_swX (wx_QTIMES hX _ _) fun σ hX => wp_dr rfl (wp_gd rfl ?_)
  dsimp only
  rw [rx_HOPS hX]
  refine wp_swX (wx_QHOP hX _ _) fun σ hX => wp_dr rfl (wp_gd rfl ?_)
  dsimp only
  generalize hl : fn_hd (if vI A 15 i = 0 then 192 else 208) 258 4 (fn_nh A) (if vI A 17 i = 0 then fn_nh A else vI A 17 i) = l at hX
  have key : ∀ σ, w_X T σ (fn_page (fn_putA A i b) l) → wp (E xP45 (zD (d + 4)) 2 [some (.inr (.inr (some (0, 0)))), some (.inr (.inr (some (6, i)))), some (.inr (.inr (some (9, b)))), none] [] σ) Q := by
    intro σ hX
    have hm : vL (fn_putA A i b) 1 0 = vL A 1 0 := rfl
    have hme : fn_me (fn_putA A i b) = fn_me A := rfl
    have hl4 : l.length = 20 := by rw [← hl]; rfl
    have hlb : z_by l := by rw [← hl]; exact fn_hd_by _ _ _ _ _
    have hq : ∀ σ l, w_X T σ (fn_page (fn_putA A i b) l) → x_txt σ (52 + 3 * i) (vL A 7 i) ∧ x_txt σ (53 + 3 * i) (vL A 8 i) ∧ x_txt σ (54 + 3 * i) (vL A 9 i) := fun σ l h => rx_QN h i hi
    refine wp_eq (e45_2 ..) (wp_dr rfl (wp_gd rfl (wp_dr (rx_p0_4 hX) (wp_gd rfl ?_))))
    dsimp only
    rw [rx_p6_0 hX]
    refine cvX (fun Q' k => xc_text hX (fun σ l h => (hq σ l h).1) hn1 (by omega) (by omega) k) fun σ hX => ?_
    refine cvX (fun Q' k => xc_origin hX (by rw [hm]; exact hH1) (by simp only [List.length_append, fn_txt_len]; omega) (by simp only [List.length_append, fn_txt_len]; omega) k) fun σ hX => wp_dr rfl (wp_gd rfl (wp_dr (rx_p0_4 hX) (wp_gd rfl ?_)))
    rw [hme] at hX
    dsimp only
    rw [rx_p6_2 hX]
    refine cvX (fun Q' k => xc_text hX (fun σ l h => (hq σ l h).2.2) hr1 (by simp only [List.length_append, fn_txt_len, fn_me_len]; omega) (by simp only [List.length_append, fn_txt_len, fn_me_len]; omega) k) fun σ hX => wp_dr rfl (wp_gd rfl (wp_dr (rx_p0_4 hX) (wp_gd rfl ?_)))
    dsimp only
    rw [rx_p6_1 hX]
    refine cvX (fun Q' k => xc_text hX (fun σ l h => (hq σ l h).2.1) hm1 (by simp only [List.length_append, fn_txt_len, fn_me_len]; omega) (by simp only [List.length_append, fn_txt_len, fn_me_len]; omega) k) fun σ hX => wp_dr (rx_p0_4 hX) (wp_gd rfl ?_)
    refine cvX (fun Q' k => xc_num hX (by simp only [List.length_append, fn_txt_len, fn_me_len]; omega) k) fun σ hX => wp_dr (rx_p0_4 hX) (wp_gd rfl ?_)
    refine cvX (fun Q' k => xc_num hX (by simp only [List.length_append, fn_txt_len, fn_me_len, fn_num_len]; omega) k) fun σ hX => wp_dr rfl (wp_gd rfl ?_)
    refine wp_cr (xc_link hX hu (hL b).1 (c := fn_conn A b) rfl hcn.2 fun σ v hX hv => ⟨_, hv, ?_⟩)
    refine wp_cv (xc_send hX (by omega) hcn.1 ?_ ?_ ?_ fun σ hX => ⟨rfl, wp_ret (k _ (X_cv hX ?_))⟩)
    · simp only [fn_page_PG, List.length_append, fn_txt_len, fn_me_len, fn_num_len]; omega
    · simp only [fn_page_PG, List.length_append, fn_txt_len, fn_me_len, fn_num_len]; omega
    · rw [fn_page_PG]
      exact z_by_app (z_by_app (z_by_app (z_by_app (z_by_app (z_by_app hlb (fn_txt_by _ hn2)) (fn_me_by hH2)) (fn_txt_by _ hr2)) (fn_txt_by _ hm2)) (fn_num_by _ _)) (fn_num_by _ _)
    · rw [← hl]
      rfl
  have e0 : ∀ x, sI (sI (sN (fn_page (fn_hop A) l) 12 i (b + 1)) 15 i (vI A 15 i + 1)) 16 i x = fn_page (sN (sI (sI (fn_hop A) 15 i (vI A 15 i + 1)) 16 i x) 12 i (b + 1)) l := fun x => rfl
  refine wp_if (fun hc => ?_) (fun hc => ?_) <;> rw [rx_QEND hX] at hc
  · have hc : vI A 17 i = 0 := hc
    refine wp_eq (e45_1 ..) (wp_dr rfl (wp_gd rfl ?_))
    dsimp only
    rw [rx_HOPS hX]
    refine wp_swX (wx_QEND hX _ _) fun σ hX => key σ (X_cv (x_ghost hX i (fn_conn A b)) ?_)
    unfold fn_putA
    rw [if_pos hc]
    rfl
  · have hc : ¬ vI A 17 i = 0 := hc
    refine key σ (X_cv (x_ghost hX i (fn_conn A b)) ?_)
    unfold fn_putA
    rw [if_neg hc, sI_id _ (show vI (sI (sI (fn_hop A) 15 i (vI A 15 i + 1)) 16 i (fn_nh A)) 17 i = vI A 17 i from rfl)]
    rfl
/-! what a question that goes leaves as it was -/
theorem put_eq (A : w_A) (i b : Nat) : ∃ l, fn_put A i b = fn_send (fn_page (fn_putA A i b) l) (fn_conn A b) := ⟨_, rfl⟩
theorem put_N (A : w_A) (i b : Nat) {v : Nat} (h1 : v ≠ 6) (h2 : v ≠ 12) (h3 : v ≠ 19) (j : Nat) : vN (fn_put A i b) v j = vN A v j := by
  obtain ⟨l, e⟩ := put_eq A i b
  rw [e, vN_send, vN_page, fn_putA, vN_sN, if_neg (fun e => h3 e.1), vN_sN, if_neg (fun e => h2 e.1), vN_sI, vN_sI, vN_sI, fn_hop, vN_sN, if_neg (fun e => h1 e.1)]
theorem put_I (A : w_A) (i b : Nat) {v : Nat} (h0 : v ≠ 14) (h1 : v ≠ 15) (h2 : v ≠ 16) (h3 : v ≠ 17) (j : Nat) : vI (fn_put A i b) v j = vI A v j := by
  obtain ⟨l, e⟩ := put_eq A i b
  rw [e, vI_send _ _ h0, vI_page, fn_putA, vI_sN, vI_sN, vI_sI, if_neg (fun e => h3 e.1), vI_sI, if_neg (fun e => h2 e.1), vI_sI, if_neg (fun e => h1 e.1)]
  rfl
theorem put_J (A : w_A) (i b v j : Nat) : vJ (fn_put A i b) v j = vJ A v j := by
  obtain ⟨l, e⟩ := put_eq A i b
  rw [e, vJ_send]
  rfl
theorem put_B {A : w_A} {n : Nat} (h : z_B n A) (i : Nat) {b : Nat} (hb : b < 4) : z_B (n + 1) (fn_put A i b) := by
  obtain ⟨l, e⟩ := put_eq A i b
  rw [e, B_send, B_page, fn_putA, B_sN _ _ (by decide)]
  refine B_QPEER ?_ _ (by omega)
  rw [B_sI _ _ (by decide), B_sI _ _ (by decide), B_sI _ _ (by decide)]
  exact B_hop h
theorem put_P (A : w_A) (i b : Nat) : vP (fn_put A i b) = vP A := by
  obtain ⟨l, e⟩ := put_eq A i b
  rw [e, vP_send]
  rfl
theorem put_hops (A : w_A) (i b : Nat) : vN (fn_put A i b) 6 0 = vN A 6 0 + 1 := by
  obtain ⟨l, e⟩ := put_eq A i b
  rw [e, vN_send]
  rfl
theorem put_us (A : w_A) (i b : Nat) (p : Nat) : fn_us (fn_put A i b) p = fn_us A p := by
  unfold fn_us fn_up
  rw [put_I A i b (by decide) (by decide) (by decide) (by decide), put_I A i b (by decide) (by decide) (by decide) (by decide)]
theorem us_cong {A B : w_A} (h : ∀ p, fn_us A p = fn_us B p) (g : vN A 0 0 = vN B 0 0) : fn_usable A = fn_usable B := by
  unfold fn_usable
  rw [g]
  congr 1
  funext p
  exact decide_eq_decide.mpr (by rw [h p])
theorem put_usable (A : w_A) (i b : Nat) : fn_usable (fn_put A i b) = fn_usable A := us_cong (put_us A i b) (put_N A i b (by decide) (by decide) (by decide) 0)
theorem put_LK {A : w_A} (h : z_LK A) (i b : Nat) : z_LK (fn_put A i b) := by
  intro p
  rw [put_I A i b (by decide) (by decide) (by decide) (by decide), put_N A i b (by decide) (by decide) (by decide), put_N A i b (by decide) (by decide) (by decide)]
  exact h p
