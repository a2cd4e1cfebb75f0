/-! PART 56 (src 56.mstates.src): the twin's questions given to others; its peers' states -/
set_option maxHeartbeats 400000
theorem QI_iff {A : w_A} {n i : Nat} (hI : z_I n A) (hn : n < 2147483648) (hi : i < vN A 3 0) : vI A 15 i = 0 ↔ vI A 17 i = 0 := by
  obtain ⟨⟨t, h1, h2, h3⟩, h4, -⟩ := hI.2.2.1 i hi
  have := hI.1.2.1
  rw [h3, io_eq_l (by omega) (by decide)]
  exact ⟨fun h => by omega, fun h => absurd h h4⟩
theorem ml_give {T : z_St} {d p : Nat} (hp : p < 4) {Q : z_St → Option z_V → Prop} : ∀ (r i n : Nat) (A : w_A) (σ : z_St), w_M T σ A → z_I n A → n + r < 2147483648 → i + r = vN A 3 0 → (∀ σ, w_M T σ (fn_gloop A p r i) → Q σ none) →
    wp (E xP134 (zD (d + 5)) 1 [some (.inr (.inr (some (8, 0)))), some (.inl (Int32.ofNat p)), some (.inl (Int32.ofNat i)), none] [] σ) Q
  | 0, i, n, A, σ, hM, hI, hn, hi, k => by
    have hb := hI.1.1
    refine wp_eq (e134_1 ..) (wp_if (fun hc => ?_) (fun hc => ?_)) <;> rw [rm_ASKS hM, io_le (by omega) (by omega)] at hc
    · exact wp_eq (e134_10 ..) (wp_ret (k _ hM))
    · omega
  | r + 1, i, n, A, σ, hM, hI, hn, hi, k => by
    have hb := hI.1.1
    have hi64 : i < 64 := by omega
    have hi31 : i < 2147483648 := by omega
    have hp31 : p < 2147483648 := by omega
    have step : ∀ σ, w_M T σ (fn_gstep A p i) → wp (E xP134 (zD (d + 5)) 9 [some (.inr (.inr (some (8, 0)))), some (.inl (Int32.ofNat p)), some (.inl (Int32.ofNat i)), none] [] σ) Q := by
      intro σ hM
      refine wp_eq (e134_9 ..) ?_
      rw [io_add_l]
      refine ml_give hp r (i + 1) (n + 1) (fn_gstep A p i) σ hM (gstep_Inv hI (by omega) (by omega)) (by omega) ?_ k
      rw [gstep_N A p i (by decide) (by decide) (by decide)]; omega
    refine wp_eq (e134_1 ..) (wp_if (fun hc => ?_) (fun hc => ?_)) <;> rw [rm_ASKS hM, io_le (by omega) (by omega)] at hc
    · omega
    · have hq0 := (hI.2.2.1 i (by omega)).2.2.2
      have hq4 := hI.1.2.2.2.2.1 i
      refine wp_eq (e134_2 ..) (wp_ar (rm_p54 hM) aty_53479440 alen_53479440 rfl (by omega) (by decide) ?_)
      refine wp_if (fun hc => ?_) (fun hc => ?_) <;> (dsimp only at hc; rw [io_nat hi31, rm_QPEER hM, io_inj (by omega) (by omega)] at hc)
      · have hc : vN A 12 i = p + 1 := by omega
        refine wp_eq (e134_3 ..) (wp_ar (rm_p53 hM) aty_52430867 alen_52430867 rfl (by omega) (by decide) ?_)
        refine wp_if (fun hr => ?_) (fun hr => ?_) <;> (dsimp only at hr; rw [io_nat hi31, rm_QRES hM, lg0] at hr)
        · refine wp_eq (e134_5 ..) (wp_cr (mc_usable hM hI.1 fun σ v hM hv => ⟨_, hv, wp_asI0 ?_⟩))
          cases ho : fn_usable A with
          | none =>
            refine wp_if (fun _ => ?_) (fun h => absurd (by decide) h)
            refine wp_eq (e134_7 ..) (wp_ar (rm_p15 hM) aty_16777360 alen_16777360 rfl (by omega) (by decide) ?_)
            refine wp_if (fun hs => ?_) (fun hs => ?_) <;> (dsimp only at hs; rw [io_nat hp31, rm_STAT hM] at hs)
            · refine step σ (M_cv hM ?_)
              unfold fn_gstep
              rw [if_pos ⟨hc, hr⟩, ho]
              exact (if_pos hs).symm
            · refine wp_eq (e134_8 ..) (wp_ar (rm_p53 hM) aty_52430867 alen_52430867 rfl (by omega) (by decide) ?_)
              simp only [io_nat hi31]
              refine wp_swM (wm_QRES hM _ _) fun σ hM => step σ (M_cv hM ?_)
              unfold fn_gstep
              rw [if_pos ⟨hc, hr⟩, ho]
              exact (if_neg hs).symm
          | some b =>
            have hb4 := us_lt hI.1 ho
            have hu := (fn_usable_some ho).2
            refine wp_if (fun h => ?_) (fun _ => ?_)
            · rw [show fn_ix (some b) = Int32.ofNat b from rfl, io_lt_l (by omega) (by decide)] at h
              omega
            refine wp_eq (e134_6 ..) (wp_cv (mc_put_ hM hI.1 hI.2.1 hi64 hb4 hu.1 (QI_iff hI (by omega) (by omega)) fun σ hM => ⟨rfl, step σ (M_cv hM ?_)⟩))
            unfold fn_gstep
            rw [if_pos ⟨hc, hr⟩, ho]
        · refine wp_eq (e134_4 ..) (step σ (M_cv hM ?_))
          unfold fn_gstep
          exact (if_neg fun h => hr h.2).symm
      · refine step σ (M_cv hM ?_)
        unfold fn_gstep
        exact (if_neg fun h => hc (by omega)).symm
theorem mc_giveOver {T σ : z_St} {A : w_A} (hM : w_M T σ A) {d p n : Nat} (hp : p < 4) (hI : z_I n A) (hn : n + 64 < 2147483648) {Q : z_St → Option z_V → Prop} (k : ∀ σ, w_M T σ (fn_giveOver A p) → Q σ none) : wp (zD (d + 6) 134 [.inr (.inr (some (8, 0))), .inl (Int32.ofNat p)] σ) Q := by
  have hb := hI.1.1
  have h1 : z_I n (sI A 3 p (vI A 3 p + 1)) := ⟨by rw [B_sI _ _ (by decide)]; exact hI.1, hI.2⟩
  refine wp_eq (c134 ..) (wp_eq (e134_0 ..) (wp_ar (rm_p18 hM) aty_19923088 alen_19923088 rfl (by omega) (by decide) (wp_ar (rm_p18 hM) aty_19923088 alen_19923088 rfl (by omega) (by decide) ?_)))
  simp only [io_nat (show p < 2147483648 by omega)]
  rw [rm_OVER hM]
  refine wp_swM (wm_OVER hM _ _) fun σ hM => ?_
  exact ml_give hp _ 0 n _ σ hM h1 (by show n + vN A 3 0 < 2147483648; omega) (Nat.zero_add _) k
theorem watch_DUE (A : w_A) (p q x : Nat) : sN (fn_sendWatch A p) 8 q x = fn_sendWatch (sN A 8 q x) p := by
  have e : fn_hop (sN A 8 q x) = sN (fn_hop A) 8 q x := sN_or A (show 6 < 8 by decide) q 0 x _
  unfold fn_sendWatch
  rw [sN_send, sN_page, e]
  rfl
theorem mc_become {T σ : z_St} {A : w_A} (hM : w_M T σ A) {d p n : Nat} {s : Int32} (hp : p < 4) (hI : z_Ip n p A) (h5 : s = 5 → ¬ vN A 10 p = 0) (h6 : s = 6 → ¬ vN A 9 p = 0) (hn : n + 64 < 2147483648) {Q : z_St → Option z_V → Prop} (k : ∀ σ, w_M T σ (fn_enter A p s) → Q σ none) : wp (zD (d + 7) 126 [.inr (.inr (some (8, 0))), .inl (Int32.ofNat p), .inl s] σ) Q := by
  have hp31 : p < 2147483648 := by omega
  have h1 : z_I n (sN (sI A 0 p s) 7 p (vN A 5 0 + 10)) := I_sN (I_ST hI h5 h6) (by decide) _ _
  let B := sN (sI A 0 p s) 7 p (vN A 5 0 + 10)
  have hs : vI B 0 p = s := by simp only [B, ev_rd, ev_st, aEl, z_w, z_cat, Nat.reduceMod, Nat.reduceDiv, Nat.reduceLeDiff, Nat.reduceLT, Nat.reduceAdd, Nat.reduceMul, Nat.reduceSub, Nat.reduceEqDiff, Int32.reduceLT, Int32.reduceLE, Int32.reduceAdd, Int32.reduceSub, Int32.reduceMul, true_and, and_true, false_and, and_false, true_or, or_true, false_or, or_false, not_true_eq_false, not_false_eq_true, if_true, if_false, reduceIte, ne_eq, and_self, or_self, reduceCtorEq, Option.some.injEq, Prod.mk.injEq]
  have hup : fn_up B p = (s = 5 ∨ s = 6) := by unfold fn_up; rw [hs]
  -- the ends: was, is
  have fin : ∀ σ, w_M T σ (fn_enter A p s) → wp (E xP126 (zD (d + 6)) 16 [none, none, none, none, none] [] σ) Q := fun σ hM => wp_eq (e126_16 ..) (wp_ret (k _ hM))
  have t13 : ∀ σ, (s = 5 ∨ s = 6) → w_M T σ (fn_enter A p s) → ∀ x, wp (E xP126 (zD (d + 6)) 13 [some (.inr (.inr (some (8, 0)))), some (.inl (Int32.ofNat p)), none, some (.inl 0), some (.inl x)] [] σ) Q := fun σ _ hM x => by
    refine wp_eq (e126_13 ..) ?_
    rw [if_pos rfl]
    exact fin σ hM
  have t8 : ∀ x3 x4 : Int32, x3 = b2i (fn_up A p) → x4 = b2i (s = 5 ∨ s = 6) → wp (E xP126 (zD (d + 6)) 8 [some (.inr (.inr (some (8, 0)))), some (.inl (Int32.ofNat p)), some (.inl s), some (.inl x3), none] [.inl x4] σ) Q := by
    rintro x3 x4 rfl rfl
    refine wp_eq (e126_8 ..) (wp_ar (rm_p11 hM) aty_12583056 alen_12583056 rfl (by omega) (by decide) ?_)
    simp only [io_nat hp31]
    refine wp_swM (wm_ST hM _ _) fun σ hM => (wp_ar (rm_p12 hM) aty_13631632 alen_13631632 rfl (by omega) (by decide) ?_)
    simp only [io_nat hp31]
    rw [rm_NOW hM, io_add_l]
    refine wp_swM (wm_LIM hM _ _) fun σ hM => ?_
    have hM : w_M T σ B := hM
    have hnow : vN B 5 0 = vN A 5 0 := rfl
    refine wp_if (fun hw => ?_) (fun hw => ?_) <;> rw [b2i_0] at hw
    · refine wp_eq (e126_9 ..) (wp_if (fun hi => ?_) (fun hi => ?_)) <;> rw [b2i_0] at hi
      · refine wp_eq (e126_13 ..) ?_
        rw [if_pos (by rw [b2i_0]; exact hw)]
        refine fin σ (M_cv hM ?_)
        unfold fn_enter
        rw [if_neg hw, if_neg hi]
      · have hi := Decidable.not_not.mp hi
        have hef : fn_enter A p s = fn_comeUp B p := by
          unfold fn_enter
          rw [if_neg hw, if_pos hi]
        have go13 : ∀ σ, w_M T σ (fn_comeUp B p) → wp (E xP126 (zD (d + 6)) 13 [some (.inr (.inr (some (8, 0)))), some (.inl (Int32.ofNat p)), none, some (.inl (b2i (fn_up A p))), some (.inl (b2i (s = 5 ∨ s = 6)))] [] σ) Q := fun σ hM => by
          refine wp_eq (e126_13 ..) ?_
          rw [if_pos (by rw [b2i_0]; exact hw)]
          exact fin σ (M_cv hM hef.symm)
        refine wp_eq (e126_10 ..) (wp_ar (rm_p15 hM) aty_16777360 alen_16777360 rfl (by omega) (by decide) ?_)
        refine wp_if (fun hz => ?_) (fun hz => ?_) <;> (dsimp only at hz; rw [io_nat hp31, rm_STAT hM] at hz)
        · refine wp_eq (e126_11 ..) (wp_ar (rm_p15 hM) aty_16777360 alen_16777360 rfl (by omega) (by decide) ?_)
          simp only [io_nat hp31]
          refine wp_swM (wm_STAT hM _ _) fun σ hM => (wp_ar (rm_p17 hM) aty_18874512 alen_18874512 rfl (by omega) (by decide) ?_)
          simp only [io_nat hp31]
          rw [rm_NOW hM, io_add_l]
          refine wp_swM (wm_DUE hM _ _) fun σ hM => go13 σ (M_cv hM ?_)
          unfold fn_comeUp
          rw [if_pos hz]
          rfl
        · refine wp_eq (e126_12 ..) (wp_ar (rm_p15 hM) aty_16777360 alen_16777360 rfl (by omega) (by decide) ?_)
          simp only [io_nat hp31]
          refine wp_swM (wm_STAT hM _ _) fun σ hM => (wp_ar (rm_p19 hM) aty_20971664 alen_20971664 rfl (by omega) (by decide) ?_)
          simp only [io_nat hp31]
          refine wp_swM (wm_ANSW hM _ _) fun σ hM => ?_
          have h2 := I_sI (I_sI h1 (v := 1) (by decide) (by decide) (by decide) (by decide) (by decide) p 4) (v := 4) (by decide) (by decide) (by decide) (by decide) (by decide) p 0
          refine wp_cv (mc_sendWatch hM hp h2 (by rw [← hup] at hi; exact hi) fun σ hM => ⟨rfl, go13 σ (M_cv hM ?_)⟩)
          rw [watch_DUE]
          unfold fn_comeUp
          rw [if_neg hz]
          rfl
    · have hw := Decidable.not_not.mp hw
      refine wp_eq (e126_13 ..) ?_
      rw [if_neg (by rw [b2i_0]; exact fun h => h hw)]
      refine wp_eq (e126_14 ..) (wp_if (fun hi => ?_) (fun hi => ?_)) <;> rw [b2i_0] at hi
      · refine wp_eq (e126_15 ..) (wp_ar (rm_p15 hM) aty_16777360 alen_16777360 rfl (by omega) (by decide) ?_)
        simp only [io_nat hp31]
        refine wp_swM (wm_STAT hM _ _) fun σ hM => (wp_ar (rm_p16 hM) aty_17825938 alen_17825938 rfl (by omega) (by decide) ?_)
        simp only [io_nat hp31]
        rw [nar0]
        refine wp_swM (wm_AWAIT hM _ _) fun σ hM => (wp_ar (rm_p17 hM) aty_18874512 alen_18874512 rfl (by omega) (by decide) ?_)
        simp only [io_nat hp31]
        rw [rm_NOW hM, io_add_l]
        refine wp_swM (wm_DUE hM _ _) fun σ hM => ?_
        have h2 := I_sN (I_sI (I_sI h1 (v := 1) (by decide) (by decide) (by decide) (by decide) (by decide) p 3) (v := 2) (by decide) (by decide) (by decide) (by decide) (by decide) p 0) (v := 8) (by decide) p (vN A 5 0 + 30)
        refine wp_cv (mc_giveOver hM hp h2 hn fun σ hM => ⟨rfl, fin σ (M_cv hM ?_)⟩)
        unfold fn_enter
        rw [if_pos hw, if_neg hi]
        rfl
      · have hi := Decidable.not_not.mp hi
        refine fin σ (M_cv hM ?_)
        unfold fn_enter
        rw [if_pos hw, if_pos hi]
  have t4 : ∀ x : Int32, x = b2i (fn_up A p) → wp (E xP126 (zD (d + 6)) 4 [some (.inr (.inr (some (8, 0)))), some (.inl (Int32.ofNat p)), some (.inl s), none, none] [.inl x] σ) Q := by
    rintro x hx
    refine wp_eq (e126_4 ..) (wp_if (fun hc => ?_) (fun hc => ?_))
    · exact wp_eq (e126_6 ..) (t8 _ _ hx (by rw [b2i_t (.inl hc)]))
    · refine wp_eq (e126_5 ..) (wp_if (fun hz => ?_) (fun hz => ?_))
      · exact wp_eq (e126_6 ..) (t8 _ _ hx (by rw [b2i_t (.inr hz)]))
      · exact wp_eq (e126_7 ..) (t8 _ _ hx (by rw [b2i_f fun h => h.elim hc hz]))
  refine wp_eq (c126 ..) (wp_eq (e126_0 ..) (wp_ar (rm_p11 hM) aty_12583056 alen_12583056 rfl (by omega) (by decide) ?_))
  refine wp_if (fun hc => ?_) (fun hc => ?_) <;> (dsimp only at hc; rw [io_nat hp31, rm_ST hM] at hc)
  · exact wp_eq (e126_2 ..) (t4 _ (by rw [b2i_t (.inl hc)]))
  · refine wp_eq (e126_1 ..) (wp_ar (rm_p11 hM) aty_12583056 alen_12583056 rfl (by omega) (by decide) ?_)
    refine wp_if (fun hz => ?_) (fun hz => ?_) <;> (dsimp only at hz; rw [io_nat hp31, rm_ST hM] at hz)
    · exact wp_eq (e126_2 ..) (t4 _ (by rw [b2i_t (.inr hz)]))
    · exact wp_eq (e126_3 ..) (t4 _ (by rw [b2i_f fun h => h.elim hc hz]))
