/-! PART 62 (src 62.stop.src): connected (twin), stop (both sides) -/
set_option maxHeartbeats 400000
theorem mc_connected {T σ : z_St} {A : w_A} (hM : w_M T σ A) {d n : Nat} {x on : Int32} (hI : z_I n A) (hS : ∀ c, 1 ≤ c → c ≤ 8 → z_Sc A c ∧ z_Sn A c) (hn : n + 65 < 2147483648) {Q : z_St → Option z_V → Prop} (k : ∀ σ v, w_M T σ (fn_cConn A x on).1 → v = some (.inl (fn_cConn A x on).2) → Q σ v) : wp (zD (d + 10) 166 [.inr (.inr (some (8, 0))), .inl x, .inl on] σ) Q := by
  unfold fn_cConn at k
  refine wp_eq (c166 ..) (wp_eq (e166_0 ..) (wp_swM (wm_code hM _) fun σ hM => wp_cr (mc_in fun v hv => ⟨_, hv, wp_asI0 ?_⟩)))
  cases hp : fn_pk 8 x with
  | none =>
    rw [hp] at k
    rw [if_pos (by rw [b2i_0]; exact pk_none hp)]
    exact wp_eq (e166_2 ..) (wp_ret (k _ _ hM rfl))
  | some c =>
    rw [if_neg (by rw [b2i_0]; exact fun h => h (pk_is.mp (by rw [hp]; rfl)))]
    obtain ⟨hc8, rfl⟩ := pk_some (by omega) hp
    rw [hp] at k
    dsimp only at k
    have hc31 : c + 1 < 2147483648 := by omega
    refine wp_eq (e166_1 ..) (wp_ar (rm_p26 hM) aty_28311856 alen_28311856 rfl (by omega) (by decide) ?_)
    refine wp_if (fun hc => ?_) (fun hc => ?_) <;> (dsimp only at hc; rw [io_nat hc31, rm_CST hM] at hc)
    · rw [if_pos hc] at k
      exact wp_eq (e166_2 ..) (wp_ret (k _ _ hM rfl))
    rw [if_neg hc] at k
    refine wp_eq (e166_3 ..) (wp_ar (rm_p26 hM) aty_28311856 alen_28311856 rfl (by omega) (by decide) ?_)
    refine wp_if (fun h2 => ?_) (fun h2 => ?_) <;> (dsimp only at h2; rw [io_nat hc31, rm_CST hM] at h2)
    · rw [if_pos h2] at k
      exact wp_eq (e166_4 ..) (wp_ret (k _ _ hM rfl))
    rw [if_neg h2] at k
    refine wp_eq (e166_5 ..) (wp_if (fun h0 => ?_) (fun h0 => ?_))
    · rw [if_pos h0] at k
      exact wp_eq (e166_6 ..) (wp_cv (mc_drop hM (by omega) (by omega) hI (hS _ (by omega) (by omega)).1 (by omega) fun σ hM => ⟨rfl, wp_ret (k _ _ hM rfl)⟩))
    · rw [if_neg h0] at k
      obtain ⟨p, g1, g2, g3, g4⟩ := (hS (c + 1) (by omega) (by omega)).2 hc h2
      obtain ⟨hp4, -⟩ := (hS (c + 1) (by omega) (by omega)).1 p g1
      rw [g1, Nat.add_sub_cancel] at k
      have hp31 : p < 2147483648 := by omega
      have e : Int32.ofNat (p + 1) - 1 = Int32.ofNat p := by rw [show (1 : Int32) = Int32.ofNat 1 from rfl, io_sub (by omega)]; rfl
      have hI1 : z_I n (sI A 12 (c + 1) 2) := I_sI hI (by decide) (by decide) (by decide) (by decide) (by decide) _ _
      have hI2 := opening_Inv (p := p) hI1
      refine wp_eq (e166_7 ..) (wp_ar (rm_p26 hM) aty_28311856 alen_28311856 rfl (by omega) (by decide) ?_)
      simp only [io_nat hc31]
      refine wp_swM (wm_CST hM _ _) fun σ hM => (wp_ar (rm_p27 hM) aty_29360432 alen_29360432 rfl (by omega) (by decide) ?_)
      simp only [io_nat hc31]
      rw [rm_CPEER hM, show vN (sI A 12 (c + 1) 2) 11 (c + 1) = p + 1 from g1]
      simp only [e]
      refine wp_cv (mc_sendOpening hM hp4 hI1.1 (show ¬ vN A 9 p = 0 by omega) fun σ hM => ⟨rfl, (wp_ar (rm_p11 hM) aty_12583056 alen_12583056 rfl (by omega) (by decide) ?_)⟩)
      have es : vI (fn_sendOpening (sI A 12 (c + 1) 2) p) 0 p = vI A 0 p := by rw [opening_I _ _ (by decide) (by decide)]; rfl
      have eN : ∀ v j, v ≠ 6 → vN (fn_sendOpening (sI A 12 (c + 1) 2) p) v j = vN A v j := fun v j h => by rw [opening_N _ _ h]; rfl
      refine wp_if (fun h3 => ?_) (fun h3 => ?_) <;> (dsimp only at h3; rw [io_nat hp31, rm_ST hM, es] at h3)
      · rw [if_neg (by rw [h3]; decide)] at k
        exact wp_eq (e166_8 ..) (wp_cv (mc_become hM hp4 (I_p hI2 p) (fun h => absurd h (by decide)) (fun h => absurd h (by decide)) (by omega) fun σ hM => ⟨rfl, wp_eq (e166_10 ..) (wp_ret (k _ _ hM rfl))⟩))
      · obtain ⟨g5, g6⟩ := g4.resolve_left h3
        rw [if_pos g5] at k
        refine wp_eq (e166_9 ..) (wp_cv (mc_choose hM hp4 (I_p hI2 p) ?_ ?_ ?_ ?_ (by omega) fun σ hM => ⟨rfl, wp_eq (e166_10 ..) (wp_ret (k _ _ hM rfl))⟩))
        · rw [eN _ _ (by decide)]; exact g6
        · rw [eN _ _ (by decide), g2]; omega
        · rw [eN _ _ (by decide), eN _ _ (by decide), g2]; exact g1
        · rw [eN _ _ (by decide), g2, opening_I _ _ (by decide) (by decide)]
          simp only [ev_rd, ev_st, aEl, z_w, z_cat, Nat.reduceMod, Nat.reduceDiv, Nat.reduceLeDiff, Nat.reduceLT, Nat.reduceAdd, Nat.reduceMul, Nat.reduceSub, Nat.reduceEqDiff, Int32.reduceLT, Int32.reduceLE, Int32.reduceAdd, Int32.reduceSub, Int32.reduceMul, true_and, and_true, false_and, and_false, true_or, or_true, false_or, or_false, not_true_eq_false, not_false_eq_true, if_true, if_false, reduceIte, ne_eq, and_self, or_self, reduceCtorEq, Option.some.injEq, Prod.mk.injEq]
          exact g3
def fn_cStop (A : w_A) (x cause : Int32) : w_A × Int32 := match fn_pk (vN A 0 0) x with
  | none => (A, -1)
  | some p => if 0 ≤ cause ∧ cause ≤ 2 then (if fn_up A p then (fn_enter (fn_sendEnding A p cause) p 7, 1) else (A, -3)) else (A, -2)
theorem ending_Inv {n p : Nat} {A : w_A} {cause : Int32} (h : z_I n A) : z_I (n + 1) (fn_sendEnding A p cause) := by
  unfold fn_sendEnding
  exact I_send (I_page (I_sI (I_hop h) (by decide) (by decide) (by decide) (by decide) (by decide) _ _) _) _
theorem xc_stop {T σ : z_St} {A : w_A} (hX : w_X T σ A) {d n : Nat} {x cause : Int32} (hI : z_I n A) (hn : n + 65 < 2147483648) {Q : z_St → Option z_V → Prop} (k : ∀ σ v, w_X T σ (fn_cStop A x cause).1 → v = some (.inl (fn_cStop A x cause).2) → Q σ v) : wp (zD (d + 9) 34 [.inr (.inr (some (0, 0))), .inl x, .inl cause] σ) Q := by
  obtain ⟨hH1, hH2⟩ := hI.1.2.2.2.2.2.2.2.1
  have hb := hI.1.1
  unfold fn_cStop at k
  refine wp_eq (c34 ..) (wp_eq (e34_0 ..) (wp_cr (xc_peerAt hX hI.1 fun v hv => ⟨_, hv, ?_⟩)))
  rw [asR_mk]
  cases hp : fn_pk (vN A 0 0) x with
  | none =>
    rw [hp] at k
    refine wp_if (fun _ => ?_) (fun h => absurd (by rfl) h)
    exact wp_eq (e34_1 ..) (wp_ret (k _ _ hX rfl))
  | some p =>
    obtain ⟨hp1, rfl⟩ := pk_some (by omega) hp
    rw [hp] at k
    rw [if_neg (by simp)]
    have hr : ((0 : Int64) ≤ cause.toInt64 ∧ cause.toInt64 ≤ 2) = (0 ≤ cause ∧ cause ≤ 2) := by
      rw [show (0 : Int64) = (0 : Int32).toInt64 from rfl, show (2 : Int64) = (2 : Int32).toInt64 from rfl, i64_le, i64_le]
    refine wp_eq (e34_2 ..) (wp_cr (xc_isIn fun v hv => ⟨_, hv, wp_asI0 ?_⟩))
    dsimp only at k ⊢
    refine wp_if (fun hc => ?_) (fun hc => ?_) <;> rw [b2i_0, hr] at hc
    · rw [if_neg hc] at k
      exact wp_eq (e34_3 ..) (wp_ret (k _ _ hX rfl))
    rw [if_pos (Decidable.not_not.mp hc)] at k
    refine wp_eq (e34_4 ..) (wp_dr rfl (wp_gd rfl (wp_cr (xc_isUp hX fun σ v hX hv => ⟨_, hv, wp_asI0 ?_⟩))))
    refine wp_if (fun hu => ?_) (fun hu => ?_) <;> rw [b2i_0] at hu
    · rw [if_neg hu] at k
      exact wp_eq (e34_5 ..) (wp_ret (k _ _ hX rfl))
    have hu := Decidable.not_not.mp hu
    rw [if_pos hu] at k
    have hcn := LK_conn hI.1 hI.2.1 hu
    refine wp_eq (e34_6 ..) (wp_cv (xc_request hX fun σ hX => ⟨rfl, wp_dr rfl (wp_gd rfl ?_)⟩))
    rw [rx_HOPS hX]
    dsimp only
    refine wp_swX (wx_EHOP hX _ _) fun σ hX => ?_
    rw [sI_page] at hX
    refine cvX (fun Q' k => xc_origin hX hH1 (by simp only [fn_page_PG, List.length_append, fn_hd_len, fn_num_len, fn_me_len, fn_addr_len, fn_txt_len, fn_attr_len, b4_len, fn_me_sI, fn_me_sN, fn_me_sJ, fn_me_page, fn_hop] <;> omega) (by simp only [fn_page_PG, List.length_append, fn_hd_len, fn_num_len, fn_me_len, fn_addr_len, fn_txt_len, fn_attr_len, b4_len, fn_me_sI, fn_me_sN, fn_me_sJ, fn_me_page, fn_hop] <;> omega) k) fun σ hX => ?_
    rw [rx_p0_4 hX]
    refine wp_dr rfl (wp_gd rfl ?_)
    refine cvX (fun Q' k => xc_num hX (by simp only [fn_page_PG, List.length_append, fn_hd_len, fn_num_len, fn_me_len, fn_addr_len, fn_txt_len, fn_attr_len, b4_len, fn_me_sI, fn_me_sN, fn_me_sJ, fn_me_page, fn_hop] <;> omega) k) fun σ hX => wp_dr rfl (wp_gd rfl ?_)
    refine wp_cr (xc_link hX hu (hI.2.1 p).1 (c := fn_conn A p) rfl hcn.2 fun σ v hX hv => ⟨_, hv, ?_⟩)
    refine wp_cv (xc_send hX (by omega) hcn.1 (by simp only [fn_page_PG, List.length_append, fn_hd_len, fn_num_len, fn_me_len, fn_addr_len, fn_txt_len, fn_attr_len, b4_len, fn_me_sI, fn_me_sN, fn_me_sJ, fn_me_page, fn_hop] <;> omega) (by simp only [fn_page_PG, List.length_append, fn_hd_len, fn_num_len, fn_me_len, fn_addr_len, fn_txt_len, fn_attr_len, b4_len, fn_me_sI, fn_me_sN, fn_me_sJ, fn_me_page, fn_hop] <;> omega) (by simp only [fn_page_PG, fn_me_sI, fn_me_sN, fn_me_sJ, fn_me_page, fn_hop]; repeat' (first | with_reducible exact fn_hd_by _ _ _ _ _ | with_reducible exact fn_num_by _ _ | with_reducible exact fn_addr_by | with_reducible exact fn_attr_by _ _ | with_reducible exact b4_by _ | with_reducible exact fn_me_by (by assumption) | with_reducible exact fn_txt_by _ (by assumption) | with_reducible refine z_by_app ?_ ?_)) fun σ hX => ⟨rfl, ?_⟩)
    rw [Int32.toInt32_toInt64] at hX
    have hX : w_X T σ (fn_sendEnding A p cause) := X_cv hX rfl
    exact wp_cv (xc_enter hX (I_p (ending_Inv hI) p) (fun h => absurd h (by decide)) (fun h => absurd h (by decide)) (by omega) fun σ hX => ⟨rfl, wp_ret (k _ _ hX rfl)⟩)
theorem mc_stop {T σ : z_St} {A : w_A} (hM : w_M T σ A) {d n : Nat} {x cause : Int32} (hI : z_I n A) (hn : n + 65 < 2147483648) {Q : z_St → Option z_V → Prop} (k : ∀ σ v, w_M T σ (fn_cStop A x cause).1 → v = some (.inl (fn_cStop A x cause).2) → Q σ v) : wp (zD (d + 8) 169 [.inr (.inr (some (8, 0))), .inl x, .inl cause] σ) Q := by
  have hb := hI.1.1
  unfold fn_cStop at k
  refine wp_eq (c169 ..) (wp_eq (e169_0 ..) (wp_swM (wm_code hM _) fun σ hM => wp_cr (mc_noPeer hM fun v hv => ⟨_, hv, wp_asI0 ?_⟩)))
  cases hp : fn_pk (vN A 0 0) x with
  | none =>
    rw [hp] at k
    rw [if_neg (by rw [b2i_0]; exact fun h => h rfl)]
    exact wp_eq (e169_1 ..) (wp_ret (k _ _ hM rfl))
  | some p =>
    obtain ⟨hp1, rfl⟩ := pk_some (by omega) hp
    rw [hp] at k
    dsimp only at k
    have hp4 : p < 4 := by omega
    have hp31 : p < 2147483648 := by omega
    have e : Int32.ofNat (p + 1) - 1 = Int32.ofNat p := by rw [show (1 : Int32) = Int32.ofNat 1 from rfl, io_sub (by omega)]; rfl
    rw [if_pos (by rw [b2i_0]; exact fun h => by cases h)]
    refine wp_eq (e169_2 ..) (wp_cr (mc_in fun v hv => ⟨_, hv, wp_asI0 ?_⟩))
    refine wp_if (fun hc => ?_) (fun hc => ?_) <;> rw [b2i_0] at hc
    · rw [if_neg hc] at k
      exact wp_eq (e169_3 ..) (wp_ret (k _ _ hM rfl))
    rw [if_pos (Decidable.not_not.mp hc)] at k
    have go : fn_up A p → wp (E xP169 (zD (d + 7)) 7 [some (.inr (.inr (some (8, 0)))), none, some (.inl cause), some (.inl (Int32.ofNat p))] [] σ) Q := fun hu => by
      rw [if_pos hu] at k
      refine wp_eq (e169_7 ..) (wp_cv (mc_sendEnding hM hp4 hI hu fun σ hM => ⟨rfl, ?_⟩))
      exact wp_cv (mc_become hM hp4 (I_p (ending_Inv hI) p) (fun h => absurd h (by decide)) (fun h => absurd h (by decide)) (by omega) fun σ hM => ⟨rfl, wp_ret (k _ _ hM rfl)⟩)
    refine wp_eq (e169_4 ..) (wp_ar (rm_p11 hM) aty_12583056 alen_12583056 e (by omega) (by decide) ?_)
    simp only [e]
    refine wp_if (fun h5 => ?_) (fun h5 => ?_) <;> (rw [io_nat hp31, rm_ST hM] at h5)
    · exact go (.inl h5)
    refine wp_eq (e169_5 ..) (wp_ar (rm_p11 hM) aty_12583056 alen_12583056 rfl (by omega) (by decide) ?_)
    refine wp_if (fun h6 => ?_) (fun h6 => ?_) <;> (dsimp only at h6; rw [io_nat hp31, rm_ST hM] at h6)
    · exact go (.inr h6)
    rw [if_neg (fun h => h.elim h5 h6)] at k
    exact wp_eq (e169_6 ..) (wp_ret (k _ _ hM rfl))
