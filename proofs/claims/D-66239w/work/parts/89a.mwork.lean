/-! PART 89a (src 89a.mwork.src): the twin's work with a message -/
set_option maxHeartbeats 800000
theorem mc_request {T σ : z_St} {A : w_A} (hM : w_M T σ A) {P : w_P} (hP : vP A = some P) (hr : z_rP (vI A 64) P) (hq : fn_req P) {n p c : Nat} (hW : z_W n A) (hn : n + 64 < 2147483648) (hp : p < 4) (hpp : p < vN A 0 0) (hc1 : 1 ≤ c) (hc : c ≤ 8) {d : Nat} {Q : z_St → Option z_V → Prop} (k : ∀ σ, w_M T σ (fn_work A c p P) → Q σ none) : wp (zD (d + 9) 160 [.inr (.inr (some (8, 0))), .inl (Int32.ofNat c), .inl (Int32.ofNat p)] σ) Q := by
  have hp31 : p < 2147483648 := by omega
  have hB := hW.1.1.1
  have hm := rm_msg hM hP
  unfold fn_work at k
  rw [if_neg (fun q => q hq)] at k
  refine wp_eq (c160 ..) (wp_eq (e160_0 ..) ?_)
  rw [hm.2.2.2.2.2.2.1]
  by_cases hw : pW P = 0
  rotate_left
  · rw [if_pos hw] at k
    refine wp_if (fun q => absurd (rP_pos hr hw) (Int32.not_lt.mpr q)) (fun _ => ?_)
    exact wp_eq (e160_1 ..) (wp_cv (mc_refuse (d := d + 2) hM hc1 hc hP hr hB hq rfl fun σ hM => ⟨rfl, wp_eq (e160_9 ..) (wp_ret (k σ hM))⟩))
  rw [if_neg (fun q => q hw)] at k
  rw [hw]
  refine wp_if (fun _ => ?_) (fun q => absurd (by decide) q)
  refine wp_eq (e160_2 ..) ?_
  rw [hm.2.2.1]
  refine wp_if (fun h => ?_) (fun h1 => ?_)
  · rw [if_pos h] at k
    exact wp_eq (e160_3 ..) (wp_cv (mc_plain (d := d + 2) hM hc1 hc hP hr hB rfl (fun q => absurd q.1 (by decide)) fun σ hM => ⟨rfl, wp_eq (e160_9 ..) (wp_ret (k σ hM))⟩))
  rw [if_neg h1] at k
  refine wp_eq (e160_4 ..) ?_
  rw [hm.2.2.1]
  refine wp_if (fun h => ?_) (fun h2 => ?_)
  · rw [if_pos h] at k
    refine wp_eq (e160_5 ..) (wp_cv (mc_with (d := d + 2) hM hc1 hc hP hr hB rfl (fun q => h1 q.2) fun σ hM => ⟨rfl, wp_eq (e160_9 ..) (wp_ret (k σ ?_))⟩))
    rw [if_pos ⟨rfl, h⟩] at hM
    exact hM
  rw [if_neg h2] at k
  have hmm := rP_req hr hw hq
  refine wp_eq (e160_6 ..) ?_
  rw [hm.2.2.1]
  refine wp_if (fun h => ?_) (fun h3 => ?_)
  · rw [if_neg (by rw [h]; decide)] at k
    obtain ⟨hS1, hS2, hSN, hKT, -⟩ := hW.2.2
    exact wp_eq (e160_7 ..) (wp_cv (mc_credit (d := d) hM hP hr hw hq h hB hKT hS1 hS2 hSN hpp hc1 hc fun σ hM => ⟨rfl, wp_eq (e160_9 ..) (wp_ret (k σ hM))⟩))
  · have h282 : pM P = 282 := by
      rcases hmm with g | g | g | g
      · exact absurd g h1
      · exact absurd g h2
      · exact g
      · exact absurd g h3
    rw [if_pos h282] at k
    refine wp_eq (e160_8 ..) (wp_cv (mc_plain (d := d + 2) hM hc1 hc hP hr hB rfl (fun q => by rcases q.2 with g | g <;> rw [g] at h282 <;> exact absurd h282 (by decide)) fun σ hM => ⟨rfl, ?_⟩))
    refine (wp_ar (rm_p22 hM) aty_24117392 alen_24117392 rfl (by omega) (by decide) ?_)
    simp only [io_nat hp31]
    have h1W := W_plain hW c P 2001
    refine wp_swM (wm_EHOP hM p 0) fun σ hM => ?_
    exact wp_cv (mc_become (d := d + 1) hM hp (I_p (I_sI h1W.1.1 (by decide) (by decide) (by decide) (by decide) (by decide) _ _) p) (fun q => absurd q (by decide)) (fun q => absurd q (by decide)) hn fun σ hM => ⟨rfl, wp_eq (e160_9 ..) (wp_ret (k σ hM))⟩)
theorem mc_heard {T σ : z_St} {A : w_A} (hM : w_M T σ A) {P : w_P} (hP : vP A = some P) (hr : z_rP (vI A 64) P) {n p c : Nat} (hW : z_W n A) (hn : n + 64 < 2147483648) (hp : p < 4) (hpp : p < vN A 0 0) (hu : fn_up A p) (hcc : fn_conn A p = c) (hc1 : 1 ≤ c) (hc : c ≤ 8) {d : Nat} {Q : z_St → Option z_V → Prop} (k : ∀ σ, w_M T σ (fn_heard A c p P) → Q σ none) : wp (zD (d + 10) 159 [.inr (.inr (some (8, 0))), .inl (Int32.ofNat c), .inl (Int32.ofNat p)] σ) Q := by
  have hp31 : p < 2147483648 := by omega
  have hm := rm_msg hM hP
  have hst := (hW.1.2.2.1 p).mpr hu
  /- work is done -/
  have work : ∀ σ B, w_M T σ B → (B = A ∨ B = sI (sN A 8 p (vN A 5 0 + 30)) 1 p 1) → (∀ σ, w_M T σ (fn_work B c p P) → Q σ none) → wp (E xP159 (zD (d + 9)) 19 [some (.inr (.inr (some (8, 0)))), some (.inl (Int32.ofNat c)), some (.inl (Int32.ofNat p)), some (.inl 0)] [] σ) Q := by
    intro σ B hM hB2 kk
    have hWB : z_W n B := by
      rcases hB2 with rfl | rfl
      · exact hW
      · exact W_fr hW (fr_sI (fr_DUE A p rfl) (by decide) (by decide) (by decide) _ _) (C_STAT (C_DUE hW.1 _ _) hu (.inl rfl))
    have eIN : vI B 64 = vI A 64 := by rcases hB2 with rfl | rfl <;> rfl
    have ePP : vN B 0 0 = vN A 0 0 := by rcases hB2 with rfl | rfl <;> rfl
    have eC : fn_conn B p = fn_conn A p := by rcases hB2 with rfl | rfl <;> rfl
    have eP : vP B = some P := by rcases hB2 with rfl | rfl <;> exact hP
    have hm := rm_msg hM eP
    refine wp_eq (e159_19 ..) (wp_if (fun _ => ?_) (fun q => absurd rfl q))
    refine wp_eq (e159_21 ..) (wp_cr (mw_isReq (d := d + 8) hm.2.1 ⟨_, rfl, wp_asI0 ?_⟩))
    refine wp_if (fun q => ?_) (fun q => ?_) <;> rw [b2i_0] at q
    · have ew : fn_work B c p P = fn_askAns B p P := by
        unfold fn_work
        rw [if_pos q]
      rw [ew] at kk
      exact wp_eq (e159_23 ..) (wp_cv (mc_askAns (d := d + 6) hM eP (by rw [eIN]; exact hr) hWB.1.1 hp hc (eC.trans hcc) (hWB.1.2.2.2.2.2 p).2 q fun σ hM => ⟨rfl, wp_eq (e159_24 ..) (wp_ret (kk σ hM))⟩))
    · exact wp_eq (e159_22 ..) (wp_cv (mc_request (d := d) hM eP (by rw [eIN]; exact hr) (Classical.not_not.mp q) hWB hn hp (by rw [ePP]; exact hpp) hc1 hc fun σ hM => ⟨rfl, wp_eq (e159_24 ..) (wp_ret (kk σ hM))⟩))
  have due : ∀ σ B x, w_M T σ B → vN B 5 0 = vN A 5 0 → (∀ σ, w_M T σ (sI (sN B 8 p (vN A 5 0 + 30)) 1 p 1) → wp (E xP159 (zD (d + 9)) 19 [some (.inr (.inr (some (8, 0)))), some (.inl (Int32.ofNat c)), some (.inl (Int32.ofNat p)), some (.inl x)] [] σ) Q) → wp (E xP159 (zD (d + 9)) 9 [some (.inr (.inr (some (8, 0)))), some (.inl (Int32.ofNat c)), some (.inl (Int32.ofNat p)), some (.inl x)] [] σ) Q := by
    intro σ B x hM hnow kk
    refine wp_eq (e159_9 ..) (wp_ar (rm_p15 hM) aty_16777360 alen_16777360 rfl (by omega) (by decide) ?_)
    simp only [io_nat hp31]
    refine wp_swM (wm_STAT hM p 1) fun σ hM => (wp_ar (rm_p17 hM) aty_18874512 alen_18874512 rfl (by omega) (by decide) ?_)
    simp only [io_nat hp31]
    rw [rm_NOW hM, io_add_l, show vN (sI B 1 p 1) 5 0 = vN A 5 0 from hnow]
    exact wp_swM (wm_DUE hM p _) fun σ hM => kk σ hM
  have k5 : ∀ v : Int32, (v = 0 ∨ v = 1) → (v = 0 ↔ ¬ (vI A 2 p ≠ 0 ∧ fn_isA P 280 (vI A 6 p))) → wp (E xP159 (zD (d + 9)) 5 [some (.inr (.inr (some (8, 0)))), some (.inl (Int32.ofNat c)), some (.inl (Int32.ofNat p)), none] [.inl v] σ) Q := by
    intro v hv01 hv
    unfold fn_heard at k
    refine wp_eq (e159_5 ..) (wp_if (fun h0 => ?_) (fun h0 => ?_))
    · rw [if_neg (hv.mp h0)] at k
      subst h0
      refine wp_eq (e159_7 ..) (wp_ar (rm_p15 hM) aty_16777360 alen_16777360 rfl (by omega) (by decide) ?_)
      refine wp_if (fun h => ?_) (fun h1 => ?_) <;> (dsimp only at *; rw [io_nat hp31, rm_STAT hM] at *)
      · rw [if_pos (.inl h)] at k
        exact due σ A 0 hM rfl fun σ hM => work σ _ hM (.inr rfl) k
      refine wp_eq (e159_8 ..) (wp_ar (rm_p15 hM) aty_16777360 alen_16777360 rfl (by omega) (by decide) ?_)
      refine wp_if (fun h => ?_) (fun h2 => ?_) <;> (dsimp only at *; rw [io_nat hp31, rm_STAT hM] at *)
      · rw [if_pos (.inr h)] at k
        exact due σ A 0 hM rfl fun σ hM => work σ _ hM (.inr rfl) k
      rw [if_neg (fun q => q.elim h1 h2)] at k
      have lost : (¬ fn_req P ∨ (pM P ≠ 280 ∧ pM P ≠ 282)) → wp (E xP159 (zD (d + 9)) 18 [some (.inr (.inr (some (8, 0)))), none, none, none] [] σ) Q := by
        intro h
        rw [if_pos h] at k
        refine wp_eq (e159_18 ..) ?_
        rw [rm_LOST hM]
        exact wp_swM (wm_LOST hM _) fun σ hM => wp_ret (k σ hM)
      refine wp_eq (e159_10 ..) (wp_if (fun _ => ?_) (fun q => absurd rfl q))
      refine wp_eq (e159_15 ..) (wp_cr (mw_isReq (d := d + 8) hm.2.1 ⟨_, rfl, wp_asI0 ?_⟩))
      refine wp_if (fun q => ?_) (fun q => ?_) <;> rw [b2i_0] at q
      · exact lost (.inl q)
      have hreq : fn_req P := Classical.not_not.mp q
      refine wp_eq (e159_16 ..) ?_
      rw [hm.2.2.1]
      refine wp_if (fun g => ?_) (fun g1 => ?_)
      · rw [if_neg (fun q => q.elim (fun q => q hreq) (fun q => q.1 g))] at k
        exact work σ A hM (.inl rfl) k
      refine wp_eq (e159_17 ..) ?_
      rw [hm.2.2.1]
      refine wp_if (fun g => ?_) (fun g2 => lost (.inr ⟨g1, g2⟩))
      rw [if_neg (fun q => q.elim (fun q => q hreq) (fun q => q.2 g))] at k
      exact work σ A hM (.inl rfl) k
    · have ha : vI A 2 p ≠ 0 ∧ fn_isA P 280 (vI A 6 p) := Classical.byContradiction fun q => h0 (hv.mpr q)
      have hv1 : v = 1 := hv01.resolve_left h0
      rw [if_pos ha] at k
      dsimp only at k
      subst hv1
      have done : ∀ σ, Q σ none → wp (E xP159 (zD (d + 9)) 19 [some (.inr (.inr (some (8, 0)))), some (.inl (Int32.ofNat c)), some (.inl (Int32.ofNat p)), some (.inl 1)] [] σ) Q := fun σ q => wp_eq (e159_19 ..) (wp_if (fun q => absurd q (by decide)) (fun _ => wp_eq (e159_20 ..) (wp_ret q)))
      refine wp_eq (e159_6 ..) (wp_ar (rm_p16 hM) aty_17825938 alen_17825938 rfl (by omega) (by decide) ?_)
      simp only [io_nat hp31]
      refine wp_swM (wm_AWAIT hM p 0) fun σ hM => ?_
      have rst : gI σ 16777360 0 p = vI A 1 p := rm_STAT hM p
      refine wp_eq (e159_7 ..) (wp_ar (rm_p15 hM) aty_16777360 alen_16777360 rfl (by omega) (by decide) ?_)
      refine wp_if (fun h => ?_) (fun h1 => ?_) <;> first | (dsimp only at h; rw [io_nat hp31, rst] at h) | (dsimp only at h1; rw [io_nat hp31, rst] at h1)
      · rw [if_pos (.inl h)] at k
        exact due σ _ 1 hM rfl fun σ hM => done σ (k σ hM)
      refine wp_eq (e159_8 ..) (wp_ar (rm_p15 hM) aty_16777360 alen_16777360 rfl (by omega) (by decide) ?_)
      refine wp_if (fun h => ?_) (fun h2 => ?_) <;> first | (dsimp only at h; rw [io_nat hp31, rst] at h) | (dsimp only at h2; rw [io_nat hp31, rst] at h2)
      · rw [if_pos (.inr h)] at k
        exact due σ _ 1 hM rfl fun σ hM => done σ (k σ hM)
      rw [if_neg (fun q => q.elim h1 h2)] at k
      have h4 : vI A 1 p = 4 := by
        rcases hst with g | g | g
        · exact absurd g h1
        · exact absurd g h2
        · exact g
      have ran : gI σ 20971664 0 p = vI A 4 p := rm_ANSW hM p
      refine wp_eq (e159_10 ..) (wp_if (fun q => absurd q (by decide)) (fun _ => ?_))
      refine wp_eq (e159_11 ..) (wp_ar (rm_p19 hM) aty_20971664 alen_20971664 rfl (by omega) (by decide) (wp_ar (rm_p19 hM) aty_20971664 alen_20971664 rfl (by omega) (by decide) ?_))
      simp only [io_nat hp31]
      rw [ran]
      refine wp_swM (wm_ANSW hM p _) fun σ hM => (wp_ar (rm_p19 hM) aty_20971664 alen_20971664 rfl (by omega) (by decide) ?_)
      have ran2 : gI σ 20971664 0 p = vI A 4 p + 1 := by rw [rm_ANSW hM p, vI_sI, if_pos ⟨rfl, rfl⟩]
      simp only [io_nat hp31]
      rw [ran2]
      refine wp_if (fun h3 => ?_) (fun h3 => ?_)
      · rw [if_pos h3] at k
        rw [h3] at hM
        refine wp_eq (e159_12 ..) (wp_eq (e159_14 ..) (wp_ar (rm_p15 hM) aty_16777360 alen_16777360 rfl (by omega) (by decide) ?_))
        simp only [io_nat hp31]
        exact wp_swM (wm_STAT hM p 1) fun σ hM => done σ (k σ hM)
      · rw [if_neg h3] at k
        refine wp_eq (e159_13 ..) (wp_eq (e159_14 ..) (wp_ar (rm_p15 hM) aty_16777360 alen_16777360 rfl (by omega) (by decide) ?_))
        simp only [io_nat hp31]
        refine wp_swM (wm_STAT hM p 4) fun σ hM => done σ (k σ ?_)
        rw [sI_id _ (show vI (sI (sI A 2 p 0) 4 p (vI A 4 p + 1)) 1 p = 4 from h4)] at hM
        exact hM
  refine wp_eq (c159 ..) (wp_eq (e159_0 ..) (wp_ar (rm_p16 hM) aty_17825938 alen_17825938 rfl (by omega) (by decide) ?_))
  dsimp only
  rw [io_nat hp31, rm_AWAIT hM]
  refine wp_if (fun h => ?_) (fun h => ?_)
  · exact wp_eq (e159_4 ..) (k5 0 (.inl rfl) ⟨fun _ q => q.1 h, fun _ => rfl⟩)
  refine wp_eq (e159_1 ..) (wp_ar (rm_p21 hM) aty_23068816 alen_23068816 rfl (by omega) (by decide) ?_)
  dsimp only
  rw [io_nat hp31, rm_WHOP hM]
  refine wp_cr (mc_ours (d := d + 7) hM hP ⟨_, rfl, wp_asI0 ?_⟩)
  refine wp_if (fun q => ?_) (fun q => ?_) <;> rw [b2i_0] at q
  · exact wp_eq (e159_4 ..) (k5 0 (.inl rfl) ⟨fun _ x => q ⟨x.2.1, x.2.2.2.1, x.2.2.2.2.1⟩, fun _ => rfl⟩)
  obtain ⟨q1, q2, q3⟩ := Classical.not_not.mp q
  refine wp_eq (e159_2 ..) ?_
  rw [hm.2.2.2.2.2.2.1]
  refine wp_if (fun hw => ?_) (fun hw => ?_)
  · exact wp_eq (e159_3 ..) (k5 1 (.inr rfl) ⟨fun q => absurd q (by decide), fun q => absurd ⟨h, q1, hw, q2, q3, hW.1.2.2.2.1 p h⟩ q⟩)
  · exact wp_eq (e159_4 ..) (k5 0 (.inl rfl) ⟨fun _ x => hw x.2.2.1, fun _ => rfl⟩)
