/-! PART 53 (src 53.mstate.src): the twin's peers: what is sent to them -/
set_option maxHeartbeats 400000
theorem wp_ar {r : Option z_Ad} {a t L k : Nat} {x : Int32} {f : z_Ad → Option z_R} {Q : z_St → Option z_V → Prop} (hr : r = some (a, 0)) (ht : aTy a = t) (hL : aLen a = L) (hx : x = Int32.ofNat k) (hk : k < L) (hl : L ≤ 2147483648) (h : wp (f (a, 0)) Q) : wp (dr r fun q => gd (aTy q.1 = t) (gd (zin x (aLen q.1)) (f q))) Q := by
  subst hr hx
  refine wp_dr rfl (wp_gd ht (wp_gd ?_ h))
  show zin (Int32.ofNat k) (aLen a)
  rw [hL]
  exact zin_io hk hl
theorem mc_nextHop {T σ : z_St} {A : w_A} (hM : w_M T σ A) {d : Nat} {Q : z_St → Option z_V → Prop} (k : ∀ σ v, w_M T σ (fn_hop A) → v = some (.inl (fn_nh A)) → Q σ v) : wp (zD (d + 1) 100 [.inr (.inr (some (8, 0)))] σ) Q := by
  refine wp_eq (c100 ..) (wp_eq (e100_0 ..) ?_)
  rw [rm_HOPS hM, io_add_l]
  refine wp_swM (wm_HOPS hM (vN A 6 0 + 1)) fun σ hM => wp_ret (k _ _ hM ?_)
  rw [rm_HOPS hM]
  simp only [ev_rd, ev_st, aEl, z_w, z_cat, Nat.reduceMod, Nat.reduceDiv, Nat.reduceLeDiff, Nat.reduceLT, Nat.reduceAdd, Nat.reduceMul, Nat.reduceSub, Nat.reduceEqDiff, Int32.reduceLT, Int32.reduceLE, Int32.reduceAdd, Int32.reduceSub, Int32.reduceMul, true_and, and_true, false_and, and_false, true_or, or_true, false_or, or_false, not_true_eq_false, not_false_eq_true, if_true, if_false, reduceIte, ne_eq, and_self, or_self, reduceCtorEq, Option.some.injEq, Prod.mk.injEq]
  rw [show (1 : Int32) = Int32.ofNat 1 from rfl, io_sub (by omega)]
  rfl
theorem mc_conn {T σ : z_St} {A : w_A} (hM : w_M T σ A) {d p : Nat} (hp : p < 4) (ho : vN A 10 p < 2147483648) {Q : z_St → Option z_V → Prop} (k : ∀ σ v, w_M T σ A → v = some (.inl (Int32.ofNat (fn_conn A p))) → Q σ v) : wp (zD (d + 1) 101 [.inr (.inr (some (8, 0))), .inl (Int32.ofNat p)] σ) Q := by
  have own : wp (E xP101 (zD d) 2 [some (.inr (.inr (some (8, 0)))), some (.inl (Int32.ofNat p))] [] σ) (fun σ' v => σ' = σ ∧ v = some (.inl (Int32.ofNat (vN A 9 p)))) := by
    refine wp_eq (e101_2 ..) (wp_ar (rm_p13 hM) aty_14680208 alen_14680208 rfl (by omega) (by decide) (wp_eq (e101_4 ..) (wp_ret ⟨rfl, ?_⟩)))
    dsimp only
    rw [io_nat (show p < 2147483648 by omega), rm_OWN hM]
  refine wp_eq (c101 ..) (wp_eq (e101_0 ..) (wp_ar (rm_p11 hM) aty_12583056 alen_12583056 rfl (by omega) (by decide) ?_))
  refine wp_if (fun hc => ?_) (fun hc => ?_) <;> (dsimp only at hc; rw [io_nat (show p < 2147483648 by omega), rm_ST hM] at hc)
  · refine wp_mono own ?_
    rintro _ _ ⟨rfl, rfl⟩
    refine k _ _ hM ?_
    unfold fn_conn
    rw [if_pos (.inl hc)]
  · refine wp_eq (e101_1 ..) (wp_ar (rm_p14 hM) aty_15728784 alen_15728784 rfl (by omega) (by decide) ?_)
    refine wp_if (fun hz => ?_) (fun hz => ?_) <;> (dsimp only at hz; rw [io_nat (show p < 2147483648 by omega), rm_CAME hM, io_eq_l ho (by decide)] at hz)
    · refine wp_mono own ?_
      rintro _ _ ⟨rfl, rfl⟩
      refine k _ _ hM ?_
      unfold fn_conn
      rw [if_pos (.inr hz)]
    · refine wp_eq (e101_3 ..) (wp_ar (rm_p14 hM) aty_15728784 alen_15728784 rfl (by omega) (by decide) (wp_eq (e101_4 ..) (wp_ret (k _ _ hM ?_))))
      dsimp only
      rw [io_nat (show p < 2147483648 by omega), rm_CAME hM]
      unfold fn_conn
      rw [if_neg (fun h => h.elim hc hz)]
theorem mc_sendOpening {T σ : z_St} {A : w_A} (hM : w_M T σ A) {d p n : Nat} (hp : p < 4) (hB : z_B n A) (ho : ¬ vN A 9 p = 0) {Q : z_St → Option z_V → Prop} (k : ∀ σ, w_M T σ (fn_sendOpening A p) → Q σ none) : wp (zD (d + 5) 102 [.inr (.inr (some (8, 0))), .inl (Int32.ofNat p)] σ) Q := by
  obtain ⟨hH1, hH2⟩ := hB.2.2.2.2.2.2.2.1
  have hO := (hB.2.2.1 p).1
  refine wp_eq (c102 ..) (wp_eq (e102_0 ..) ?_)
  have h0 := hM
  refine wp_cr (mc_nextHop hM fun σ v hM hv => ⟨_, hv, wp_asI0 (wp_ar (rm_p20 h0) aty_22020240 alen_22020240 rfl (by omega) (by decide) ?_)⟩)
  simp only [io_nat (show p < 2147483648 by omega)]
  refine wp_swM (wm_OHOP hM _ _) fun σ hM => (wp_ar (rm_p20 hM) aty_22020240 alen_22020240 rfl (by omega) (by decide) (wp_ar (rm_p20 hM) aty_22020240 alen_22020240 rfl (by omega) (by decide) ?_))
  simp only [io_nat (show p < 2147483648 by omega)]
  rw [rm_OHOP hM, vI_sI, if_pos ⟨rfl, rfl⟩]
  refine wp_cv (mc_head hM fun σ hM => ⟨rfl, ?_⟩)
  refine cvM (fun Q' k => mc_me hM hH1 hH2 (by simp only [fn_page_PG, List.length_append, fn_hd_len, fn_num_len, fn_me_len, fn_addr_len, fn_txt_len, fn_attr_len, b4_len, fn_me_sI, fn_me_sN, fn_me_sJ, fn_me_page, fn_hop] <;> omega) (by simp only [fn_page_PG, List.length_append, fn_hd_len, fn_num_len, fn_me_len, fn_addr_len, fn_txt_len, fn_attr_len, b4_len, fn_me_sI, fn_me_sN, fn_me_sJ, fn_me_page, fn_hop] <;> omega) k) fun σ hM => ?_
  refine cvM (fun Q' k => mc_addr hM (by simp only [fn_page_PG, List.length_append, fn_hd_len, fn_num_len, fn_me_len, fn_addr_len, fn_txt_len, fn_attr_len, b4_len, fn_me_sI, fn_me_sN, fn_me_sJ, fn_me_page, fn_hop] <;> omega) (by simp only [fn_page_PG, List.length_append, fn_hd_len, fn_num_len, fn_me_len, fn_addr_len, fn_txt_len, fn_attr_len, b4_len, fn_me_sI, fn_me_sN, fn_me_sJ, fn_me_page, fn_hop] <;> omega) k) fun σ hM => (wp_ar (rm_p13 hM) aty_14680208 alen_14680208 rfl (by omega) (by decide) ?_)
  simp only [io_nat (show p < 2147483648 by omega)]
  rw [rm_OWN hM]
  refine wp_cv (mc_go (c := vN A 9 p) hM (by omega) hO (by simp only [fn_page_PG, List.length_append, fn_hd_len, fn_num_len, fn_me_len, fn_addr_len, fn_txt_len, fn_attr_len, b4_len, fn_me_sI, fn_me_sN, fn_me_sJ, fn_me_page, fn_hop] <;> omega) (by simp only [fn_page_PG, List.length_append, fn_hd_len, fn_num_len, fn_me_len, fn_addr_len, fn_txt_len, fn_attr_len, b4_len, fn_me_sI, fn_me_sN, fn_me_sJ, fn_me_page, fn_hop] <;> omega) (by simp only [fn_page_PG, fn_me_sI, fn_me_sN, fn_me_sJ, fn_me_page, fn_hop]; repeat' (first | with_reducible exact fn_hd_by _ _ _ _ _ | with_reducible exact fn_num_by _ _ | with_reducible exact fn_addr_by | with_reducible exact fn_attr_by _ _ | with_reducible exact b4_by _ | with_reducible exact fn_me_by (by assumption) | with_reducible exact fn_txt_by _ (by assumption) | with_reducible refine z_by_app ?_ ?_)) fun σ hM => ⟨rfl, wp_ret (k _ (M_cv hM ?_))⟩)
  rfl
theorem mc_sendWatch {T σ : z_St} {A : w_A} (hM : w_M T σ A) {d p n : Nat} (hp : p < 4) (hI : z_I n A) (hu : fn_up A p) {Q : z_St → Option z_V → Prop} (k : ∀ σ, w_M T σ (sN (fn_sendWatch A p) 8 p (vN A 5 0 + 30)) → Q σ none) : wp (zD (d + 5) 103 [.inr (.inr (some (8, 0))), .inl (Int32.ofNat p)] σ) Q := by
  obtain ⟨hH1, hH2⟩ := hI.1.2.2.2.2.2.2.2.1
  obtain ⟨hO, hC⟩ := hI.1.2.2.1 p
  have hcn := LK_conn hI.1 hI.2.1 hu
  refine wp_eq (c103 ..) (wp_eq (e103_0 ..) ?_)
  have h0 := hM
  refine wp_cr (mc_nextHop hM fun σ v hM hv => ⟨_, hv, wp_asI0 (wp_ar (rm_p21 h0) aty_23068816 alen_23068816 rfl (by omega) (by decide) ?_)⟩)
  simp only [io_nat (show p < 2147483648 by omega)]
  refine wp_swM (wm_WHOP hM _ _) fun σ hM => (wp_ar (rm_p21 hM) aty_23068816 alen_23068816 rfl (by omega) (by decide) (wp_ar (rm_p21 hM) aty_23068816 alen_23068816 rfl (by omega) (by decide) ?_))
  simp only [io_nat (show p < 2147483648 by omega)]
  rw [rm_WHOP hM, vI_sI, if_pos ⟨rfl, rfl⟩]
  refine wp_cv (mc_head hM fun σ hM => ⟨rfl, ?_⟩)
  refine cvM (fun Q' k => mc_me hM hH1 hH2 (by simp only [fn_page_PG, List.length_append, fn_hd_len, fn_num_len, fn_me_len, fn_addr_len, fn_txt_len, fn_attr_len, b4_len, fn_me_sI, fn_me_sN, fn_me_sJ, fn_me_page, fn_hop] <;> omega) (by simp only [fn_page_PG, List.length_append, fn_hd_len, fn_num_len, fn_me_len, fn_addr_len, fn_txt_len, fn_attr_len, b4_len, fn_me_sI, fn_me_sN, fn_me_sJ, fn_me_page, fn_hop] <;> omega) k) fun σ hM => ?_
  refine cvM (fun Q' k => mc_num hM (by simp only [fn_page_PG, List.length_append, fn_hd_len, fn_num_len, fn_me_len, fn_addr_len, fn_txt_len, fn_attr_len, b4_len, fn_me_sI, fn_me_sN, fn_me_sJ, fn_me_page, fn_hop] <;> omega) k) fun σ hM => ?_
  refine wp_cr (mc_conn hM hp (show vN A 10 p < 2147483648 by omega) fun σ v hM hv => ⟨_, hv, ?_⟩)
  refine wp_cv (mc_go (c := fn_conn A p) hM (by omega) hcn.1 (by simp only [fn_page_PG, List.length_append, fn_hd_len, fn_num_len, fn_me_len, fn_addr_len, fn_txt_len, fn_attr_len, b4_len, fn_me_sI, fn_me_sN, fn_me_sJ, fn_me_page, fn_hop] <;> omega) (by simp only [fn_page_PG, List.length_append, fn_hd_len, fn_num_len, fn_me_len, fn_addr_len, fn_txt_len, fn_attr_len, b4_len, fn_me_sI, fn_me_sN, fn_me_sJ, fn_me_page, fn_hop] <;> omega) (by simp only [fn_page_PG, fn_me_sI, fn_me_sN, fn_me_sJ, fn_me_page, fn_hop]; repeat' (first | with_reducible exact fn_hd_by _ _ _ _ _ | with_reducible exact fn_num_by _ _ | with_reducible exact fn_addr_by | with_reducible exact fn_attr_by _ _ | with_reducible exact b4_by _ | with_reducible exact fn_me_by (by assumption) | with_reducible exact fn_txt_by _ (by assumption) | with_reducible refine z_by_app ?_ ?_)) fun σ hM => ⟨rfl, (wp_ar (rm_p16 hM) aty_17825938 alen_17825938 rfl (by omega) (by decide) ?_)⟩)
  simp only [io_nat (show p < 2147483648 by omega)]
  rw [nar1]
  refine wp_swM (wm_AWAIT hM _ _) fun σ hM => (wp_ar (rm_p17 hM) aty_18874512 alen_18874512 rfl (by omega) (by decide) ?_)
  simp only [io_nat (show p < 2147483648 by omega)]
  rw [rm_NOW hM, io_add_l]
  refine wp_swM (wm_DUE hM _ _) fun σ hM => wp_ret (k _ (M_cv hM ?_))
  rw [sI_send _ _ (by decide), sI_page, vN_send]
  rfl
theorem mc_sendEnding {T σ : z_St} {A : w_A} (hM : w_M T σ A) {d p n : Nat} {cause : Int32} (hp : p < 4) (hI : z_I n A) (hu : fn_up A p) {Q : z_St → Option z_V → Prop} (k : ∀ σ, w_M T σ (fn_sendEnding A p cause) → Q σ none) : wp (zD (d + 5) 104 [.inr (.inr (some (8, 0))), .inl (Int32.ofNat p), .inl cause] σ) Q := by
  obtain ⟨hH1, hH2⟩ := hI.1.2.2.2.2.2.2.2.1
  obtain ⟨hO, hC⟩ := hI.1.2.2.1 p
  have hcn := LK_conn hI.1 hI.2.1 hu
  refine wp_eq (c104 ..) (wp_eq (e104_0 ..) ?_)
  have h0 := hM
  refine wp_cr (mc_nextHop hM fun σ v hM hv => ⟨_, hv, wp_asI0 (wp_ar (rm_p22 h0) aty_24117392 alen_24117392 rfl (by omega) (by decide) ?_)⟩)
  simp only [io_nat (show p < 2147483648 by omega)]
  refine wp_swM (wm_EHOP hM _ _) fun σ hM => (wp_ar (rm_p22 hM) aty_24117392 alen_24117392 rfl (by omega) (by decide) (wp_ar (rm_p22 hM) aty_24117392 alen_24117392 rfl (by omega) (by decide) ?_))
  simp only [io_nat (show p < 2147483648 by omega)]
  rw [rm_EHOP hM, vI_sI, if_pos ⟨rfl, rfl⟩]
  refine wp_cv (mc_head hM fun σ hM => ⟨rfl, ?_⟩)
  refine cvM (fun Q' k => mc_me hM hH1 hH2 (by simp only [fn_page_PG, List.length_append, fn_hd_len, fn_num_len, fn_me_len, fn_addr_len, fn_txt_len, fn_attr_len, b4_len, fn_me_sI, fn_me_sN, fn_me_sJ, fn_me_page, fn_hop] <;> omega) (by simp only [fn_page_PG, List.length_append, fn_hd_len, fn_num_len, fn_me_len, fn_addr_len, fn_txt_len, fn_attr_len, b4_len, fn_me_sI, fn_me_sN, fn_me_sJ, fn_me_page, fn_hop] <;> omega) k) fun σ hM => ?_
  refine cvM (fun Q' k => mc_num hM (by simp only [fn_page_PG, List.length_append, fn_hd_len, fn_num_len, fn_me_len, fn_addr_len, fn_txt_len, fn_attr_len, b4_len, fn_me_sI, fn_me_sN, fn_me_sJ, fn_me_page, fn_hop] <;> omega) k) fun σ hM => ?_
  refine wp_cr (mc_conn hM hp (show vN A 10 p < 2147483648 by omega) fun σ v hM hv => ⟨_, hv, ?_⟩)
  refine wp_cv (mc_go (c := fn_conn A p) hM (by omega) hcn.1 (by simp only [fn_page_PG, List.length_append, fn_hd_len, fn_num_len, fn_me_len, fn_addr_len, fn_txt_len, fn_attr_len, b4_len, fn_me_sI, fn_me_sN, fn_me_sJ, fn_me_page, fn_hop] <;> omega) (by simp only [fn_page_PG, List.length_append, fn_hd_len, fn_num_len, fn_me_len, fn_addr_len, fn_txt_len, fn_attr_len, b4_len, fn_me_sI, fn_me_sN, fn_me_sJ, fn_me_page, fn_hop] <;> omega) (by simp only [fn_page_PG, fn_me_sI, fn_me_sN, fn_me_sJ, fn_me_page, fn_hop]; repeat' (first | with_reducible exact fn_hd_by _ _ _ _ _ | with_reducible exact fn_num_by _ _ | with_reducible exact fn_addr_by | with_reducible exact fn_attr_by _ _ | with_reducible exact b4_by _ | with_reducible exact fn_me_by (by assumption) | with_reducible exact fn_txt_by _ (by assumption) | with_reducible refine z_by_app ?_ ?_)) fun σ hM => ⟨rfl, wp_ret (k _ (M_cv hM ?_))⟩)
  rfl
theorem mc_answerCame {T σ : z_St} {A : w_A} (hM : w_M T σ A) {d p n : Nat} (hp : p < 4) (hB : z_B n A) (hz : ¬ vN A 10 p = 0) {Q : z_St → Option z_V → Prop} (k : ∀ σ, w_M T σ (fn_answerCame A p) → Q σ none) : wp (zD (d + 5) 123 [.inr (.inr (some (8, 0))), .inl (Int32.ofNat p)] σ) Q := by
  obtain ⟨hH1, hH2⟩ := hB.2.2.2.2.2.2.2.1
  have hC := (hB.2.2.1 p).2
  refine wp_eq (c123 ..) (wp_eq (e123_0 ..) (wp_ar (rm_p23 hM) aty_25165968 alen_25165968 rfl (by omega) (by decide) (wp_ar (rm_p24 hM) aty_26214544 alen_26214544 rfl (by omega) (by decide) (wp_ar (rm_p25 hM) aty_27263120 alen_27263120 rfl (by omega) (by decide) ?_))))
  simp only [io_nat (show p < 2147483648 by omega)]
  rw [rm_CFL hM, rm_CHOP hM, rm_CEND hM]
  refine wp_cv (mc_head hM fun σ hM => ⟨rfl, ?_⟩)
  refine cvM (fun Q' k => mc_num hM (by simp only [fn_page_PG, List.length_append, fn_hd_len, fn_num_len, fn_me_len, fn_addr_len, fn_txt_len, fn_attr_len, b4_len, fn_me_sI, fn_me_sN, fn_me_sJ, fn_me_page, fn_hop] <;> omega) k) fun σ hM => ?_
  refine cvM (fun Q' k => mc_me hM hH1 hH2 (by simp only [fn_page_PG, List.length_append, fn_hd_len, fn_num_len, fn_me_len, fn_addr_len, fn_txt_len, fn_attr_len, b4_len, fn_me_sI, fn_me_sN, fn_me_sJ, fn_me_page, fn_hop] <;> omega) (by simp only [fn_page_PG, List.length_append, fn_hd_len, fn_num_len, fn_me_len, fn_addr_len, fn_txt_len, fn_attr_len, b4_len, fn_me_sI, fn_me_sN, fn_me_sJ, fn_me_page, fn_hop] <;> omega) k) fun σ hM => ?_
  refine cvM (fun Q' k => mc_addr hM (by simp only [fn_page_PG, List.length_append, fn_hd_len, fn_num_len, fn_me_len, fn_addr_len, fn_txt_len, fn_attr_len, b4_len, fn_me_sI, fn_me_sN, fn_me_sJ, fn_me_page, fn_hop] <;> omega) (by simp only [fn_page_PG, List.length_append, fn_hd_len, fn_num_len, fn_me_len, fn_addr_len, fn_txt_len, fn_attr_len, b4_len, fn_me_sI, fn_me_sN, fn_me_sJ, fn_me_page, fn_hop] <;> omega) k) fun σ hM => (wp_ar (rm_p14 hM) aty_15728784 alen_15728784 rfl (by omega) (by decide) ?_)
  simp only [io_nat (show p < 2147483648 by omega)]
  rw [rm_CAME hM]
  refine wp_cv (mc_go (c := vN A 10 p) hM (by omega) hC (by simp only [fn_page_PG, List.length_append, fn_hd_len, fn_num_len, fn_me_len, fn_addr_len, fn_txt_len, fn_attr_len, b4_len, fn_me_sI, fn_me_sN, fn_me_sJ, fn_me_page, fn_hop] <;> omega) (by simp only [fn_page_PG, List.length_append, fn_hd_len, fn_num_len, fn_me_len, fn_addr_len, fn_txt_len, fn_attr_len, b4_len, fn_me_sI, fn_me_sN, fn_me_sJ, fn_me_page, fn_hop] <;> omega) (by simp only [fn_page_PG, fn_me_sI, fn_me_sN, fn_me_sJ, fn_me_page, fn_hop]; repeat' (first | with_reducible exact fn_hd_by _ _ _ _ _ | with_reducible exact fn_num_by _ _ | with_reducible exact fn_addr_by | with_reducible exact fn_attr_by _ _ | with_reducible exact b4_by _ | with_reducible exact fn_me_by (by assumption) | with_reducible exact fn_txt_by _ (by assumption) | with_reducible refine z_by_app ?_ ?_)) fun σ hM => ⟨rfl, wp_ret (k _ (M_cv hM ?_))⟩)
  rfl
