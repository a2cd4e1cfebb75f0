/-! PART 55 (src 55.mput.src): the twin's questions go, and are given to others -/
set_option maxHeartbeats 800000
theorem mc_put_ {T σ : z_St} {A : w_A} (hM : w_M T σ A) {d n i b : Nat} (hB : z_B n A) (hL : z_LK A) (hi : i < 64) (hb : b < 4) (hu : fn_up A b) (hq : vI A 15 i = 0 ↔ vI A 17 i = 0) {Q : z_St → Option z_V → Prop} (k : ∀ σ, w_M T σ (fn_put A i b) → Q σ none) : wp (zD (d + 5) 133 [.inr (.inr (some (8, 0))), .inl (Int32.ofNat i), .inl (Int32.ofNat b)] σ) Q := by
  obtain ⟨hH1, hH2⟩ := hB.2.2.2.2.2.2.2.1
  obtain ⟨⟨hn1, hn2⟩, ⟨hm1, hm2⟩, hr1, hr2⟩ := hB.2.2.2.2.2.2.2.2.2.1 i
  obtain ⟨hO, hC⟩ := hB.2.2.1 b
  have hcn := LK_conn hB hL hu
  have hi31 : i < 2147483648 := by omega
  have hi41 : 41 * i < 2147483648 := by omega
  let e := if vI A 17 i = 0 then fn_nh A else vI A 17 i
  let B := sN (sN (sI (sI (fn_hop A) 16 i (fn_nh A)) 17 i e) 12 i (b + 1)) 19 i (fn_conn A b)
  let l := fn_hd (if vI A 15 i = 0 then 192 else 208) 258 4 (fn_nh A) e
  refine wp_eq (c133 ..) (wp_eq (e133_0 ..) ?_)
  have h0 := hM
  refine wp_cr (mc_nextHop hM fun σ v hM hv => ⟨_, hv, wp_asI0 (wp_ar (rm_p56 h0) aty_55576592 alen_55576592 rfl (by omega) (by decide) ?_)⟩)
  simp only [io_nat hi31]
  refine wp_swM (wm_QHOP hM _ _) fun σ hM => (wp_ar (rm_p55 hM) aty_54528016 alen_54528016 rfl (by omega) (by decide) ?_)
  simp only [io_nat hi31]
  have key : ∀ σ, w_M T σ (sI (fn_hop A) 16 i (fn_nh A)) → wp (E xP133 (zD (d + 4)) 3 [some (.inr (.inr (some (8, 0)))), some (.inl (Int32.ofNat i)), some (.inl (Int32.ofNat b))] [.inl e, .inl (Int32.ofNat i), .inr (.inr (gR σ 8 57 0))] σ) Q := by
    intro σ hM
    refine wp_eq (e133_3 ..) (wp_ar (rm_p57 hM) aty_56625168 alen_56625168 rfl (by omega) (by decide) ?_)
    simp only [io_nat hi31]
    refine wp_swM (wm_QEND hM _ _) fun σ hM => (wp_ar (rm_p54 hM) aty_53479440 alen_53479440 rfl (by omega) (by decide) ?_)
    simp only [io_nat hi31]
    refine wp_swM (wm_QPEERp hM _ _) fun σ hM => ?_
    have h1 := hM
    refine wp_cr (mc_conn hM hb (show vN A 10 b < 2147483648 by omega) fun σ v hM hv => ⟨_, hv, wp_asI0 (wp_ar (rm_p58 h1) aty_57673744 alen_57673744 rfl (by omega) (by decide) ?_)⟩)
    simp only [io_nat hi31]
    refine wp_swM (wm_QCONN (x := fn_conn A b) hM _) fun σ hM => (wp_ar (rm_p55 hM) aty_54528016 alen_54528016 rfl (by omega) (by decide) ?_)
    have hM : w_M T σ B := hM
    simp only [io_nat hi31]
    have hb6 : ∀ x, x = (if vI A 15 i = 0 then (192 : Int32) else 208) → wp (E xP133 (zD (d + 4)) 6 [some (.inr (.inr (some (8, 0)))), some (.inl (Int32.ofNat i)), none] [.inl x, .inr (.inr (some (8, 0)))] σ) Q := by
      rintro x rfl
      refine wp_eq (e133_6 ..) (wp_ar (rm_p56 hM) aty_55576592 alen_55576592 rfl (by omega) (by decide) (wp_ar (rm_p57 hM) aty_56625168 alen_56625168 rfl (by omega) (by decide) (wp_dr rfl (wp_gd rfl ?_))))
      simp only [io_nat hi31]
      rw [rm_QHOP hM, rm_QEND hM]
      refine wp_cv (mc_head hM fun σ hM => ⟨rfl, ?_⟩)
      have e1 : vI B 16 i = fn_nh A := by simp only [B, ev_rd, ev_st, aEl, z_w, z_cat, Nat.reduceMod, Nat.reduceDiv, Nat.reduceLeDiff, Nat.reduceLT, Nat.reduceAdd, Nat.reduceMul, Nat.reduceSub, Nat.reduceEqDiff, Int32.reduceLT, Int32.reduceLE, Int32.reduceAdd, Int32.reduceSub, Int32.reduceMul, true_and, and_true, false_and, and_false, true_or, or_true, false_or, or_false, not_true_eq_false, not_false_eq_true, if_true, if_false, reduceIte, ne_eq, and_self, or_self, reduceCtorEq, Option.some.injEq, Prod.mk.injEq]
      have e2 : vI B 17 i = e := by simp only [B, ev_rd, ev_st, aEl, z_w, z_cat, Nat.reduceMod, Nat.reduceDiv, Nat.reduceLeDiff, Nat.reduceLT, Nat.reduceAdd, Nat.reduceMul, Nat.reduceSub, Nat.reduceEqDiff, Int32.reduceLT, Int32.reduceLE, Int32.reduceAdd, Int32.reduceSub, Int32.reduceMul, true_and, and_true, false_and, and_false, true_or, or_true, false_or, or_false, not_true_eq_false, not_false_eq_true, if_true, if_false, reduceIte, ne_eq, and_self, or_self, reduceCtorEq, Option.some.injEq, Prod.mk.injEq]
      rw [e1, e2] at hM
      have hM : w_M T σ (fn_page B l) := hM
      have hl4 : l.length = 20 := rfl
      have hlb : z_by l := fn_hd_by _ _ _ _ _
      have hme : fn_me B = fn_me A := rfl
      have hmh : vL B 1 0 = vL A 1 0 := rfl
      have hq0 : ∀ σ l, w_M T σ (fn_page B l) → m_nm σ 49367057 (41 * i) (vL A 7 i) ∧ m_nm σ 50415633 (41 * i) (vL A 8 i) ∧ m_nm σ 51464209 (41 * i) (vL A 9 i) := fun σ l h => (rm_G h).2.2.2.2.2 i hi
      have x41 : (41 * Int32.ofNat i) + 1 = Int32.ofNat (41 * i + 1) := by rw [io_lmul, io_add_l]
      refine (wp_ar (rm_p50 hM) aty_49367057 alen_49367057 (show 41 * Int32.ofNat i = Int32.ofNat (41 * i) from io_lmul i 41) (by omega) (by decide) ?_)
      simp only [io_lmul, io_nat hi41, io_add_l]
      rw [rm_p50 hM, (hq0 σ l hM).1.1]
      refine cvM (fun Q' k => mc_text (m := vL A 7 i) hM rfl rfl aty_49367057 (by rw [alen_49367057]; omega) (by rw [alen_49367057]; decide) hn1 hn2 (fun σ l h => (hq0 σ l h).1.2) (by omega) (by omega) k) fun σ hM => ?_
      refine cvM (fun Q' k => mc_me hM (by rw [hmh]; exact hH1) (by rw [hmh]; exact hH2) (by simp only [List.length_append, fn_txt_len]; omega) (by simp only [List.length_append, fn_txt_len]; omega) k) fun σ hM => (wp_ar (rm_p52 hM) aty_51464209 alen_51464209 rfl (by omega) (by decide) ?_)
      rw [hme] at hM
      simp only [io_nat hi41]
      rw [rm_p52 hM, (hq0 σ _ hM).2.2.1]
      refine cvM (fun Q' k => mc_text (m := vL A 9 i) hM rfl rfl aty_51464209 (by rw [alen_51464209]; omega) (by rw [alen_51464209]; decide) hr1 hr2 (fun σ l h => (hq0 σ l h).2.2.2) (by simp only [List.length_append, fn_txt_len, fn_me_len]; omega) (by simp only [List.length_append, fn_txt_len, fn_me_len]; omega) k) fun σ hM => (wp_ar (rm_p51 hM) aty_50415633 alen_50415633 rfl (by omega) (by decide) ?_)
      simp only [io_nat hi41]
      rw [rm_p51 hM, (hq0 σ _ hM).2.1.1]
      refine cvM (fun Q' k => mc_text (m := vL A 8 i) hM rfl rfl aty_50415633 (by rw [alen_50415633]; omega) (by rw [alen_50415633]; decide) hm1 hm2 (fun σ l h => (hq0 σ l h).2.1.2) (by simp only [List.length_append, fn_txt_len, fn_me_len]; omega) (by simp only [List.length_append, fn_txt_len, fn_me_len]; omega) k) fun σ hM => ?_
      refine cvM (fun Q' k => mc_num hM (by simp only [List.length_append, fn_txt_len, fn_me_len]; omega) k) fun σ hM => ?_
      refine cvM (fun Q' k => mc_num hM (by simp only [List.length_append, fn_txt_len, fn_me_len, fn_num_len]; omega) k) fun σ hM => (wp_ar (rm_p58 hM) aty_57673744 alen_57673744 rfl (by omega) (by decide) ?_)
      simp only [io_nat hi31]
      rw [rm_QCONN hM, show vN (fn_page B (l ++ fn_txt 263 (vL A 7 i) ++ fn_me A ++ fn_txt 283 (vL A 9 i) ++ fn_txt 293 (vL A 8 i) ++ fn_num 258 4 ++ fn_num 285 0)) 19 i = fn_conn A b from by rw [vN_page]; simp only [B, ev_rd, ev_st, aEl, z_w, z_cat, Nat.reduceMod, Nat.reduceDiv, Nat.reduceLeDiff, Nat.reduceLT, Nat.reduceAdd, Nat.reduceMul, Nat.reduceSub, Nat.reduceEqDiff, Int32.reduceLT, Int32.reduceLE, Int32.reduceAdd, Int32.reduceSub, Int32.reduceMul, true_and, and_true, false_and, and_false, true_or, or_true, false_or, or_false, not_true_eq_false, not_false_eq_true, if_true, if_false, reduceIte, ne_eq, and_self, or_self, reduceCtorEq, Option.some.injEq, Prod.mk.injEq]]
      refine wp_cv (mc_go (c := fn_conn A b) hM (by omega) hcn.1 ?_ ?_ ?_ fun σ hM => ⟨rfl, (wp_ar (rm_p55 hM) aty_54528016 alen_54528016 rfl (by omega) (by decide) (wp_ar (rm_p55 hM) aty_54528016 alen_54528016 rfl (by omega) (by decide) ?_))⟩)
      · simp only [fn_page_PG, List.length_append, fn_txt_len, fn_me_len, fn_num_len]; omega
      · simp only [fn_page_PG, List.length_append, fn_txt_len, fn_me_len, fn_num_len]; omega
      · rw [fn_page_PG]
        exact z_by_app (z_by_app (z_by_app (z_by_app (z_by_app (z_by_app hlb (fn_txt_by _ hn2)) (fn_me_by hH2)) (fn_txt_by _ hr2)) (fn_txt_by _ hm2)) (fn_num_by _ _)) (fn_num_by _ _)
      simp only [io_nat hi31]
      rw [rm_QTIMES hM]
      refine wp_swM (wm_QTIMES hM _ _) fun σ hM => wp_ret (k _ (M_cv hM ?_))
      rw [sI_send _ _ (by decide), sI_page, vI_send _ _ (by decide), vI_page]
      unfold fn_put
      have e1 : sI B 15 i (vI B 15 i + 1) = fn_putA A i b := by
        have : vI B 15 i = vI A 15 i := by simp only [B, ev_rd, ev_st, aEl, z_w, z_cat, Nat.reduceMod, Nat.reduceDiv, Nat.reduceLeDiff, Nat.reduceLT, Nat.reduceAdd, Nat.reduceMul, Nat.reduceSub, Nat.reduceEqDiff, Int32.reduceLT, Int32.reduceLE, Int32.reduceAdd, Int32.reduceSub, Int32.reduceMul, true_and, and_true, false_and, and_false, true_or, or_true, false_or, or_false, not_true_eq_false, not_false_eq_true, if_true, if_false, reduceIte, ne_eq, and_self, or_self, reduceCtorEq, Option.some.injEq, Prod.mk.injEq]; rfl
        rw [this]
        show sN (sN (sI (sI (sI (fn_hop A) 16 i (fn_nh A)) 17 i e) 15 i (vI A 15 i + 1)) 12 i (b + 1)) 19 i (fn_conn A b) = _
        rw [sI_or _ (show 15 < 17 by decide), sI_or _ (show 15 < 16 by decide)]
        rfl
      rw [e1]
      rfl
    rw [rm_QTIMES hM]
    have e3 : vI B 15 i = vI A 15 i := by simp only [B, ev_rd, ev_st, aEl, z_w, z_cat, Nat.reduceMod, Nat.reduceDiv, Nat.reduceLeDiff, Nat.reduceLT, Nat.reduceAdd, Nat.reduceMul, Nat.reduceSub, Nat.reduceEqDiff, Int32.reduceLT, Int32.reduceLE, Int32.reduceAdd, Int32.reduceSub, Int32.reduceMul, true_and, and_true, false_and, and_false, true_or, or_true, false_or, or_false, not_true_eq_false, not_false_eq_true, if_true, if_false, reduceIte, ne_eq, and_self, or_self, reduceCtorEq, Option.some.injEq, Prod.mk.injEq]; rfl
    rw [e3]
    refine wp_if (fun hc => ?_) (fun hc => ?_)
    · exact wp_eq (e133_4 ..) (hb6 _ (by rw [if_pos hc]))
    · exact wp_eq (e133_5 ..) (hb6 _ (by rw [if_neg hc]))
  rw [rm_QTIMES hM]
  have e4 : vI (sI (fn_hop A) 16 i (fn_nh A)) 15 i = vI A 15 i := by simp only [ev_rd, ev_st, aEl, z_w, z_cat, Nat.reduceMod, Nat.reduceDiv, Nat.reduceLeDiff, Nat.reduceLT, Nat.reduceAdd, Nat.reduceMul, Nat.reduceSub, Nat.reduceEqDiff, Int32.reduceLT, Int32.reduceLE, Int32.reduceAdd, Int32.reduceSub, Int32.reduceMul, true_and, and_true, false_and, and_false, true_or, or_true, false_or, or_false, not_true_eq_false, not_false_eq_true, if_true, if_false, reduceIte, ne_eq, and_self, or_self, reduceCtorEq, Option.some.injEq, Prod.mk.injEq]; rfl
  rw [e4]
  refine wp_if (fun hc => ?_) (fun hc => ?_)
  · refine wp_eq (e133_1 ..) (wp_ar (rm_p56 hM) aty_55576592 alen_55576592 rfl (by omega) (by decide) ?_)
    simp only [io_nat hi31]
    have := key σ hM
    rw [rm_QHOP hM, vI_sI, if_pos ⟨rfl, rfl⟩]
    rw [show e = fn_nh A from if_pos (hq.mp hc)] at this
    exact this
  · refine wp_eq (e133_2 ..) (wp_ar (rm_p57 hM) aty_56625168 alen_56625168 rfl (by omega) (by decide) ?_)
    simp only [io_nat hi31]
    have := key σ hM
    have e5 : vI (sI (fn_hop A) 16 i (fn_nh A)) 17 i = vI A 17 i := by simp only [ev_rd, ev_st, aEl, z_w, z_cat, Nat.reduceMod, Nat.reduceDiv, Nat.reduceLeDiff, Nat.reduceLT, Nat.reduceAdd, Nat.reduceMul, Nat.reduceSub, Nat.reduceEqDiff, Int32.reduceLT, Int32.reduceLE, Int32.reduceAdd, Int32.reduceSub, Int32.reduceMul, true_and, and_true, false_and, and_false, true_or, or_true, false_or, or_false, not_true_eq_false, not_false_eq_true, if_true, if_false, reduceIte, ne_eq, and_self, or_self, reduceCtorEq, Option.some.injEq, Prod.mk.injEq]; rfl
    rw [rm_QEND hM, e5]
    rw [show e = vI A 17 i from if_neg fun h => hc (hq.mpr h)] at this
    exact this
