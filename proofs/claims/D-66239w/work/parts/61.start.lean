/-! PART 61 (src 61.start.src): the calls start, accept, gone, connected, stop: both sides -/
set_option maxHeartbeats 400000
def fn_cStart (A : w_A) (x : Int32) : w_A × Int32 := match fn_pk (vN A 0 0) x with
  | none => (A, -1)
  | some p => if vI A 0 p = 0 then (match fn_spare A with
      | none => (A, -4)
      | some c => (fn_begin A p c, Int32.ofNat c)) else (A, -3)
def fn_cAccept (A : w_A) : w_A × Int32 := match fn_spare A with
  | none => (A, -4)
  | some c => (fn_fresh A c 2 0 0, Int32.ofNat c)
def fn_cGone (A : w_A) (x : Int32) : w_A × Int32 := match fn_pk 8 x with
  | none => (A, -1)
  | some k => if vI A 12 (k + 1) = 0 then (A, -1) else (fn_end A (k + 1), 1)
theorem begin_conn {T σ : z_St} {c : Nat} {B : w_A} (hX : w_X T σ B) (h1 : 1 ≤ c) (h8 : c ≤ 8) : gI σ 4 0 c = Int32.ofNat c := by
  have := (rx_links hX (c - 1) (by omega)).2
  rwa [show c - 1 + 1 = c by omega] at this
theorem xc_start {T σ : z_St} {A : w_A} (hX : w_X T σ A) {d n : Nat} {x : Int32} (hI : z_I n A) (hn : n + 64 < 2147483648) {Q : z_St → Option z_V → Prop} (k : ∀ σ v, w_X T σ (fn_cStart A x).1 → v = some (.inl (fn_cStart A x).2) → Q σ v) : wp (zD (d + 10) 30 [.inr (.inr (some (0, 0))), .inl x] σ) Q := by
  have hb := hI.1.1
  unfold fn_cStart at k
  refine wp_eq (c30 ..) (wp_eq (e30_0 ..) (wp_cr (xc_peerAt hX hI.1 fun v hv => ⟨_, hv, ?_⟩)))
  rw [asR_mk]
  cases hp : fn_pk (vN A 0 0) x with
  | none =>
    rw [hp] at k
    refine wp_if (fun _ => ?_) (fun h => absurd (by rfl) h)
    exact wp_eq (e30_1 ..) (wp_ret (k _ _ hX rfl))
  | some p =>
    obtain ⟨hp1, rfl⟩ := pk_some (by omega) hp
    rw [hp] at k
    rw [if_neg (by simp)]
    refine wp_eq (e30_2 ..) (wp_dr rfl (wp_gd rfl ?_))
    dsimp only at k ⊢
    refine wp_if (fun hc => ?_) (fun hc => ?_) <;> rw [rx_ST hX] at hc
    · rw [if_pos hc] at k
      refine wp_eq (e30_4 ..) (wp_cr (xc_spare hX fun v hv => ⟨_, hv, ?_⟩))
      rw [asR_mk]
      cases hs : fn_spare A with
      | none =>
        rw [hs] at k
        refine wp_if (fun _ => ?_) (fun h => absurd (by rfl) h)
        exact wp_eq (e30_5 ..) (wp_ret (k _ _ hX rfl))
      | some c =>
        obtain ⟨h1, h8, -⟩ := spare_some hs
        rw [hs] at k
        rw [if_neg (by simp)]
        refine wp_eq (e30_6 ..) (wp_cv (xc_begin_ hX (by omega) (by omega) h8 hI hn fun σ hX => ⟨rfl, wp_dr rfl (wp_gd rfl (wp_ret (k _ _ hX ?_)))⟩))
        dsimp only
        rw [begin_conn hX h1 h8]
    · rw [if_neg hc] at k
      exact wp_eq (e30_3 ..) (wp_ret (k _ _ hX rfl))
theorem mc_start {T σ : z_St} {A : w_A} (hM : w_M T σ A) {d n : Nat} {x : Int32} (hI : z_I n A) (hn : n + 64 < 2147483648) {Q : z_St → Option z_V → Prop} (k : ∀ σ v, w_M T σ (fn_cStart A x).1 → v = some (.inl (fn_cStart A x).2) → Q σ v) : wp (zD (d + 9) 164 [.inr (.inr (some (8, 0))), .inl x] σ) Q := by
  have hb := hI.1.1
  unfold fn_cStart at k
  refine wp_eq (c164 ..) (wp_eq (e164_0 ..) (wp_swM (wm_code hM _) fun σ hM => wp_cr (mc_noPeer hM fun v hv => ⟨_, hv, wp_asI0 ?_⟩)))
  cases hp : fn_pk (vN A 0 0) x with
  | none =>
    rw [hp] at k
    rw [if_neg (by rw [b2i_0]; exact fun h => h rfl)]
    exact wp_eq (e164_1 ..) (wp_ret (k _ _ hM rfl))
  | some p =>
    obtain ⟨hp1, rfl⟩ := pk_some (by omega) hp
    rw [hp] at k
    dsimp only at k
    have hp31 : p < 2147483648 := by omega
    have e : Int32.ofNat (p + 1) - 1 = Int32.ofNat p := by rw [show (1 : Int32) = Int32.ofNat 1 from rfl, io_sub (by omega)]; rfl
    rw [if_pos (by rw [b2i_0]; exact fun h => by cases h)]
    refine wp_eq (e164_2 ..) (wp_ar (rm_p11 hM) aty_12583056 alen_12583056 e (by omega) (by decide) ?_)
    refine wp_if (fun hc => ?_) (fun hc => ?_) <;> (dsimp only at hc; rw [e, io_nat hp31, rm_ST hM] at hc)
    · rw [if_pos hc] at k
      refine wp_eq (e164_4 ..) ?_
      rw [e]
      refine wp_cr (mc_begin hM (by omega) hI hn fun σ v hM hv => ⟨_, hv, wp_asI0 ?_⟩)
      cases hs : fn_spare A with
      | none =>
        rw [hs] at k
        rw [if_pos (by decide)]
        refine wp_eq (e164_6 ..) (wp_eq (e164_7 ..) (wp_ret (k _ _ (M_cv hM ?_) rfl)))
        unfold fn_bg
        rw [hs]
      | some c =>
        obtain ⟨h1, h8, -⟩ := spare_some hs
        rw [hs] at k
        rw [if_neg (by rw [show fn_cn (some c) = Int32.ofNat c from rfl, io_le_l (by omega) (by decide)]; omega)]
        refine wp_eq (e164_5 ..) (wp_eq (e164_7 ..) (wp_ret (k _ _ (M_cv hM ?_) rfl)))
        unfold fn_bg
        rw [hs]
    · rw [if_neg hc] at k
      exact wp_eq (e164_3 ..) (wp_ret (k _ _ hM rfl))
theorem xc_accept {T σ : z_St} {A : w_A} (hX : w_X T σ A) {d : Nat} {Q : z_St → Option z_V → Prop} (k : ∀ σ v, w_X T σ (fn_cAccept A).1 → v = some (.inl (fn_cAccept A).2) → Q σ v) : wp (zD (d + 2) 31 [.inr (.inr (some (0, 0)))] σ) Q := by
  unfold fn_cAccept at k
  refine wp_eq (c31 ..) (wp_eq (e31_0 ..) (wp_cr (xc_spare hX fun v hv => ⟨_, hv, ?_⟩)))
  rw [asR_mk]
  cases hs : fn_spare A with
  | none =>
    rw [hs] at k
    refine wp_if (fun _ => ?_) (fun h => absurd (by rfl) h)
    exact wp_eq (e31_1 ..) (wp_ret (k _ _ hX rfl))
  | some c =>
    obtain ⟨h1, h8, -⟩ := spare_some hs
    rw [hs] at k
    rw [if_neg (by simp)]
    refine wp_eq (e31_2 ..) (wp_dr rfl (wp_gd rfl (wp_cv (xc_fresh hX fun σ hX => ⟨rfl, wp_dr rfl (wp_gd rfl (wp_ret (k _ _ hX ?_)))⟩))))
    dsimp only
    rw [begin_conn hX h1 h8]
theorem mc_accept {T σ : z_St} {A : w_A} (hM : w_M T σ A) {d : Nat} {Q : z_St → Option z_V → Prop} (k : ∀ σ v, w_M T σ (fn_cAccept A).1 → v = some (.inl (fn_cAccept A).2) → Q σ v) : wp (zD (d + 2) 165 [.inr (.inr (some (8, 0)))] σ) Q := by
  unfold fn_cAccept at k
  refine wp_eq (c165 ..) (wp_eq (e165_0 ..) (wp_swM (wm_code hM _) fun σ hM => wp_cr (mc_fresh hM fun σ v hM hv => ⟨_, hv, wp_asI0 ?_⟩)))
  cases hs : fn_spare A with
  | none =>
    rw [hs] at k
    rw [if_pos (by decide)]
    refine wp_eq (e165_2 ..) (wp_eq (e165_3 ..) (wp_ret (k _ _ (M_cv hM ?_) rfl)))
    unfold fn_fr
    rw [hs]
  | some c =>
    obtain ⟨h1, h8, -⟩ := spare_some hs
    rw [hs] at k
    rw [if_neg (by rw [show fn_cn (some c) = Int32.ofNat c from rfl, io_le_l (by omega) (by decide)]; omega)]
    refine wp_eq (e165_1 ..) (wp_eq (e165_3 ..) (wp_ret (k _ _ (M_cv hM ?_) rfl)))
    unfold fn_fr
    rw [hs]
/-- where a connection's peer has another, that is known -/
theorem Sc_endc {A : w_A} {c : Nat} (h : z_Sc A c) : ∀ p, vN A 11 c = p + 1 → vI A 13 c = 1 → (vI A 0 p = 3 ∨ vI A 0 p = 4) → ¬ vN A 10 p = 0 := fun p hp _ hs => ((h p hp).2.2.1 hs).2
theorem xc_gone {T σ : z_St} {A : w_A} (hX : w_X T σ A) {d n : Nat} {x : Int32} (hI : z_I n A) (hS : ∀ c, 1 ≤ c → c ≤ 8 → z_Sc A c) (hn : n + 64 < 2147483648) {Q : z_St → Option z_V → Prop} (k : ∀ σ v, w_X T σ (fn_cGone A x).1 → v = some (.inl (fn_cGone A x).2) → Q σ v) : wp (zD (d + 11) 33 [.inr (.inr (some (0, 0))), .inl x] σ) Q := by
  unfold fn_cGone at k
  refine wp_eq (c33 ..) (wp_eq (e33_0 ..) (wp_cr (xc_linkAt hX fun v hv => ⟨_, hv, ?_⟩)))
  rw [asR_mk]
  cases hp : fn_pk 8 x with
  | none =>
    rw [hp] at k
    refine wp_if (fun _ => ?_) (fun h => absurd (by rfl) h)
    exact wp_eq (e33_2 ..) (wp_ret (k _ _ hX rfl))
  | some c =>
    obtain ⟨hc8, rfl⟩ := pk_some (by omega) hp
    rw [hp] at k
    rw [if_neg (by simp)]
    refine wp_eq (e33_1 ..) (wp_dr rfl (wp_gd rfl ?_))
    dsimp only at k ⊢
    refine wp_if (fun hc => ?_) (fun hc => ?_) <;> rw [rx_CST hX] at hc
    · rw [if_pos hc] at k
      exact wp_eq (e33_2 ..) (wp_ret (k _ _ hX rfl))
    · rw [if_neg hc] at k
      exact wp_eq (e33_3 ..) (wp_cv (xc_endc hX hI (Sc_endc (hS _ (by omega) (by omega))) hn fun σ hX => ⟨rfl, wp_ret (k _ _ hX rfl)⟩))
theorem mc_gone {T σ : z_St} {A : w_A} (hM : w_M T σ A) {d n : Nat} {x : Int32} (hI : z_I n A) (hS : ∀ c, 1 ≤ c → c ≤ 8 → z_Sc A c) (hn : n + 64 < 2147483648) {Q : z_St → Option z_V → Prop} (k : ∀ σ v, w_M T σ (fn_cGone A x).1 → v = some (.inl (fn_cGone A x).2) → Q σ v) : wp (zD (d + 10) 168 [.inr (.inr (some (8, 0))), .inl x] σ) Q := by
  unfold fn_cGone at k
  refine wp_eq (c168 ..) (wp_eq (e168_0 ..) (wp_swM (wm_code hM _) fun σ hM => wp_cr (mc_in fun v hv => ⟨_, hv, wp_asI0 ?_⟩)))
  cases hp : fn_pk 8 x with
  | none =>
    rw [hp] at k
    rw [if_pos (by rw [b2i_0]; exact pk_none hp)]
    exact wp_eq (e168_2 ..) (wp_ret (k _ _ hM rfl))
  | some c =>
    rw [if_neg (by rw [b2i_0]; exact fun h => h (pk_is.mp (by rw [hp]; rfl)))]
    obtain ⟨hc8, rfl⟩ := pk_some (by omega) hp
    rw [hp] at k
    dsimp only at k
    have hc31 : c + 1 < 2147483648 := by omega
    refine wp_eq (e168_1 ..) (wp_ar (rm_p26 hM) aty_28311856 alen_28311856 rfl (by omega) (by decide) ?_)
    refine wp_if (fun hc => ?_) (fun hc => ?_) <;> (dsimp only at hc; rw [io_nat hc31, rm_CST hM] at hc)
    · rw [if_pos hc] at k
      exact wp_eq (e168_2 ..) (wp_ret (k _ _ hM rfl))
    · rw [if_neg hc] at k
      exact wp_eq (e168_3 ..) (wp_cv (mc_drop hM (by omega) (by omega) hI (hS _ (by omega) (by omega)) hn fun σ hM => ⟨rfl, wp_ret (k _ _ hM rfl)⟩))
def fn_cConn (A : w_A) (x on : Int32) : w_A × Int32 := match fn_pk 8 x with
  | none => (A, -1)
  | some k => if vI A 12 (k + 1) = 0 then (A, -1) else if vI A 12 (k + 1) = 2 then (A, -3) else if on = 0 then (fn_end A (k + 1), 1)
    else
      let p := vN A 11 (k + 1) - 1
      let B := fn_sendOpening (sI A 12 (k + 1) 2) p
      (if vI A 0 p = 3 then fn_choose B p else fn_enter B p 2, 1)
/-- a connection that isn't there yet: its peer's own one -/
def z_Sn (A : w_A) (c : Nat) : Prop := ¬ vI A 12 c = 0 → ¬ vI A 12 c = 2 → ∃ p, vN A 11 c = p + 1 ∧ vN A 9 p = c ∧ vI A 13 c = 1 ∧ ((vI A 0 p = 1) ∨ (vI A 0 p = 3 ∧ ¬ vN A 10 p = 0))
theorem opening_Inv {n p : Nat} {A : w_A} (h : z_I n A) : z_I (n + 1) (fn_sendOpening A p) := by
  unfold fn_sendOpening
  exact I_send (I_page (I_sI (I_hop h) (by decide) (by decide) (by decide) (by decide) (by decide) _ _) _) _
theorem opening_N (A : w_A) (p : Nat) {v : Nat} (h : v ≠ 6) (j : Nat) : vN (fn_sendOpening A p) v j = vN A v j := by
  unfold fn_sendOpening
  rw [vN_send, vN_page, vN_sI, fn_hop, vN_sN, if_neg (fun e => h e.1)]
theorem opening_I (A : w_A) (p : Nat) {v : Nat} (h : v ≠ 5) (h2 : v ≠ 14) (j : Nat) : vI (fn_sendOpening A p) v j = vI A v j := by
  unfold fn_sendOpening
  rw [vI_send _ _ h2, vI_page, vI_sI, if_neg (fun e => h e.1)]
  rfl
theorem opening_L (A : w_A) (p : Nat) {v : Nat} (h : v ≠ 3) (h2 : v ≠ 12) (j : Nat) : vL (fn_sendOpening A p) v j = vL A v j := by
  unfold fn_sendOpening
  rw [vL_send _ _ h, vL_page _ _ h2]
  rfl
theorem xc_connected {T σ : z_St} {A : w_A} (hX : w_X T σ A) {d n : Nat} {x on : Int32} (hI : z_I n A) (hT : z_LT A) (hS : ∀ c, 1 ≤ c → c ≤ 8 → z_Sc A c ∧ z_Sn A c) (hn : n + 65 < 2147483648) {Q : z_St → Option z_V → Prop} (k : ∀ σ v, w_X T σ (fn_cConn A x on).1 → v = some (.inl (fn_cConn A x on).2) → Q σ v) : wp (zD (d + 11) 32 [.inr (.inr (some (0, 0))), .inl x, .inl on] σ) Q := by
  unfold fn_cConn at k
  refine wp_eq (c32 ..) (wp_eq (e32_0 ..) (wp_cr (xc_linkAt hX fun v hv => ⟨_, hv, ?_⟩)))
  rw [asR_mk]
  cases hp : fn_pk 8 x with
  | none =>
    rw [hp] at k
    refine wp_if (fun _ => ?_) (fun h => absurd (by rfl) h)
    exact wp_eq (e32_2 ..) (wp_ret (k _ _ hX rfl))
  | some c =>
    obtain ⟨hc8, rfl⟩ := pk_some (by omega) hp
    rw [hp] at k
    rw [if_neg (by simp)]
    refine wp_eq (e32_1 ..) (wp_dr rfl (wp_gd rfl ?_))
    dsimp only at k ⊢
    refine wp_if (fun hc => ?_) (fun hc => ?_) <;> rw [rx_CST hX] at hc
    · rw [if_pos hc] at k
      exact wp_eq (e32_2 ..) (wp_ret (k _ _ hX rfl))
    rw [if_neg hc] at k
    refine wp_eq (e32_3 ..) (wp_dr rfl (wp_gd rfl (wp_cr (xc_isOpen hX fun σ v hX hv => ⟨_, hv, wp_asI0 ?_⟩))))
    refine wp_if (fun h2 => ?_) (fun h2 => ?_) <;> rw [b2i_0] at h2
    · rw [if_neg h2] at k
      refine wp_eq (e32_5 ..) (wp_if (fun h0 => ?_) (fun h0 => ?_))
      · rw [if_pos h0] at k
        exact wp_eq (e32_6 ..) (wp_cv (xc_endc hX hI (Sc_endc (hS _ (by omega) (by omega)).1) (by omega) fun σ hX => ⟨rfl, wp_ret (k _ _ hX rfl)⟩))
      · rw [if_neg h0] at k
        obtain ⟨p, g1, g2, g3, g4⟩ := (hS (c + 1) (by omega) (by omega)).2 hc h2
        obtain ⟨hp4, -⟩ := (hS (c + 1) (by omega) (by omega)).1 p g1
        rw [g1, Nat.add_sub_cancel] at k
        have hI1 : z_I n (sI A 12 (c + 1) 2) := I_sI hI (by decide) (by decide) (by decide) (by decide) (by decide) _ _
        have hI2 := opening_Inv (p := p) hI1
        refine wp_eq (e32_7 ..) (wp_dr rfl (wp_gd rfl (wp_dr rfl (wp_gd rfl ?_))))
        dsimp only
        rw [rx_CPEER hX, g1, z_per_s]
        refine wp_swX (wx_CST hX _ _) fun σ hX => ?_
        refine wp_cv (xc_sendOpening hX hI1.1 (show ¬ vN A 9 p = 0 by omega) fun σ hX => ⟨rfl, wp_dr rfl (wp_gd rfl ?_)⟩)
        dsimp only
        have es : vI (fn_sendOpening (sI A 12 (c + 1) 2) p) 0 p = vI A 0 p := by rw [opening_I _ _ (by decide) (by decide)]; rfl
        refine wp_if (fun h3 => ?_) (fun h3 => ?_) <;> rw [rx_ST hX, es] at h3
        · rw [if_pos h3] at k
          have hz : ¬ vN (fn_sendOpening (sI A 12 (c + 1) 2) p) 10 p = 0 := by
            rw [opening_N _ _ (by decide)]
            rcases g4 with g | g
            · rw [g] at h3; exact absurd h3 (by decide)
            · exact g.2
          refine wp_eq (e32_8 ..) (wp_cv (xc_choose hX hp4 (I_p hI2 p) ?_ hz (by omega) fun σ hX => ⟨rfl, wp_eq (e32_10 ..) (wp_ret (k _ _ hX rfl))⟩))
          refine ⟨?_, fun q => ?_⟩
          · rw [opening_L _ _ (by decide) (by decide)]; exact hT.1
          · rw [opening_L _ _ (by decide) (by decide)]; exact hT.2 q
        · rw [if_neg h3] at k
          exact wp_eq (e32_9 ..) (wp_cv (xc_enter hX (I_p hI2 p) (fun h => absurd h (by decide)) (fun h => absurd h (by decide)) (by omega) fun σ hX => ⟨rfl, wp_eq (e32_10 ..) (wp_ret (k _ _ hX rfl))⟩))
    · rw [if_pos (Decidable.not_not.mp h2)] at k
      exact wp_eq (e32_4 ..) (wp_ret (k _ _ hX rfl))
