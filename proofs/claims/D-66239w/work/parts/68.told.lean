/-! PART 68 (src 68.told.src, printed by wip/gen/g68.py): what is told of connections and peers -/
set_option maxHeartbeats 400000
def fn_cCon (A : w_A) (x w : Int32) : Int32 := match fn_pk 8 x with
  | none => -1
  | some k => if w = 0 then vI A 12 (k + 1) else if w = 1 then Int32.ofNat (vN A 11 (k + 1)) else if w = 2 then vI A 13 (k + 1) else if w = 3 then Int32.ofNat (vN A 14 (k + 1)) else -2
def fn_cState (A : w_A) (x w : Int32) : Int32 := match fn_pk (vN A 0 0) x with
  | none => -1
  | some p => if w = 0 then vI A 0 p else if w = 1 then Int32.ofNat (vN A 9 p) else if w = 2 then Int32.ofNat (vN A 10 p) else if w = 3 then vI A 1 p else if w = 4 then (if vI A 2 p = 0 then 0 else 1) else if w = 5 then Int32.ofNat (vN A 8 p) else if w = 6 then vI A 3 p else if w = 7 then vI A 4 p else -2
/-- how a connection's role and peer hang together -/
def z_CR (A : w_A) : Prop := ∀ c, 1 ≤ c → c ≤ 8 → (vN A 11 c = 0 → vI A 13 c = 0) ∧ (¬ vN A 11 c = 0 → vI A 13 c = 1 ∨ vI A 13 c = 2) ∧ vN A 11 c ≤ vN A 0 0
theorem xc_connection {T σ : z_St} {A : w_A} (hX : w_X T σ A) (hC : z_CR A) {d : Nat} {x w : Int32} {Q : z_St → Option z_V → Prop} (k : ∀ σ v, w_X T σ A → v = some (.inl (fn_cCon A x w)) → Q σ v) : wp (zD (d + 3) 74 [.inr (.inr (some (0, 0))), .inl x, .inl w] σ) Q := by
  unfold fn_cCon at k
  refine wp_eq (c74 ..) (wp_eq (e74_0 ..) (wp_cr (xc_linkAt hX fun v hv => ⟨_, hv, ?_⟩)))
  rw [asR_mk]
  cases hp : fn_pk 8 x with
  | none =>
    rw [hp] at k
    refine wp_if (fun _ => ?_) (fun h => absurd (by rfl) h)
    exact wp_eq (e74_1 ..) (wp_ret (k _ _ hX rfl))
  | some c =>
    obtain ⟨hc8, rfl⟩ := pk_some (by omega) hp
    rw [hp] at k
    rw [if_neg (by simp)]
    dsimp only at k
    refine wp_eq (e74_2 ..) ?_
    refine wp_if (fun hw => ?_) (fun hw0 => ?_)
    · rw [if_pos hw] at k
      exact wp_eq (e74_3 ..) (wp_dr rfl (wp_gd rfl (wp_ret (k _ _ hX (by rw [rx_CST hX])))))
    rw [if_neg hw0] at k
    refine wp_if (fun hw => ?_) (fun hw1 => ?_)
    · rw [if_pos hw] at k
      refine wp_eq (e74_4 ..) (wp_dr rfl (wp_gd rfl ?_))
      refine wp_if (fun hc => ?_) (fun hc => ?_) <;> (dsimp only at hc; rw [rx_CPEER hX, z_per_n] at hc)
      · exact wp_eq (e74_5 ..) (wp_eq (e74_7 ..) (wp_ret (k _ _ hX (by rw [hc]; rfl))))
      · have hle := (hC (c + 1) (by omega) (by omega)).2.2
        refine wp_eq (e74_6 ..) (wp_dr rfl (wp_gd rfl (wp_dr (by rw [rx_CPEER hX]; exact z_per_p hc) (wp_gd rfl (wp_eq (e74_7 ..) (wp_ret (k _ _ hX ?_)))))))
        dsimp only
        rw [((rx_F hX).1 _ (show vN A 11 (c + 1) - 1 < vN A 0 0 by omega)).2, show vN A 11 (c + 1) - 1 + 1 = vN A 11 (c + 1) by omega]
    rw [if_neg hw1] at k
    refine wp_if (fun hw => ?_) (fun hw2 => ?_)
    · rw [if_pos hw] at k
      refine wp_eq (e74_8 ..) (wp_dr rfl (wp_gd rfl ?_))
      refine wp_if (fun hc => ?_) (fun hc => ?_) <;> (dsimp only at hc; rw [rx_CPEER hX, z_per_n] at hc)
      · exact wp_eq (e74_9 ..) (wp_eq (e74_13 ..) (wp_ret (k _ _ hX (by rw [(hC (c + 1) (by omega) (by omega)).1 hc]))))
      · have hr := (hC (c + 1) (by omega) (by omega)).2.1 hc
        refine wp_eq (e74_10 ..) (wp_dr rfl (wp_gd rfl ?_))
        refine wp_if (fun hc => ?_) (fun hc => ?_) <;> (dsimp only at hc; rw [rx_CROLE hX, b2i_0] at hc)
        · refine wp_eq (e74_12 ..) (wp_eq (e74_13 ..) (wp_ret (k _ _ hX ?_)))
          rcases hr with h | h
          · exact absurd h hc
          · rw [h]
        · refine wp_eq (e74_11 ..) (wp_eq (e74_13 ..) (wp_ret (k _ _ hX ?_)))
          rw [Classical.not_not.mp hc]
    rw [if_neg hw2] at k
    refine wp_if (fun hw => ?_) (fun hw3 => ?_)
    · rw [if_pos hw] at k
      exact wp_eq (e74_14 ..) (wp_dr rfl (wp_gd rfl (wp_ret (k _ _ hX (by rw [rx_INL hX])))))
    rw [if_neg hw3] at k
    exact wp_eq (e74_15 ..) (wp_ret (k _ _ hX rfl))
theorem xc_state {T σ : z_St} {A : w_A} (hX : w_X T σ A) {d n : Nat} (hb : z_B n A) {x w : Int32} {Q : z_St → Option z_V → Prop} (k : ∀ σ v, w_X T σ A → v = some (.inl (fn_cState A x w)) → Q σ v) : wp (zD (d + 3) 75 [.inr (.inr (some (0, 0))), .inl x, .inl w] σ) Q := by
  unfold fn_cState at k
  refine wp_eq (c75 ..) (wp_eq (e75_0 ..) (wp_cr (xc_peerAt hX hb fun v hv => ⟨_, hv, ?_⟩)))
  rw [asR_mk]
  have hb1 := hb.1
  cases hp : fn_pk (vN A 0 0) x with
  | none =>
    rw [hp] at k
    refine wp_if (fun _ => ?_) (fun h => absurd (by rfl) h)
    exact wp_eq (e75_1 ..) (wp_ret (k _ _ hX rfl))
  | some p =>
    obtain ⟨hp1, rfl⟩ := pk_some (by omega) hp
    rw [hp] at k
    rw [if_neg (by simp)]
    dsimp only at k
    refine wp_eq (e75_2 ..) ?_
    refine wp_if (fun hw => ?_) (fun hw0 => ?_)
    · rw [if_pos hw] at k
      exact wp_eq (e75_3 ..) (wp_dr rfl (wp_gd rfl (wp_ret (k _ _ hX (by rw [rx_ST hX])))))
    rw [if_neg hw0] at k
    refine wp_if (fun hw => ?_) (fun hw1 => ?_)
    · rw [if_pos hw] at k
      refine wp_eq (e75_4 ..) (wp_dr rfl (wp_gd rfl ?_))
      refine wp_if (fun hc => ?_) (fun hc => ?_) <;> (dsimp only at hc; rw [rx_OWN hX, z_one_n] at hc)
      · exact wp_eq (e75_5 ..) (wp_eq (e75_7 ..) (wp_ret (k _ _ hX (by rw [hc]; rfl))))
      · have hle := hb.2.2.1 p
        refine wp_eq (e75_6 ..) (wp_dr rfl (wp_gd rfl (wp_dr (by rw [rx_OWN hX]; exact z_one_s hc) (wp_gd rfl (wp_eq (e75_7 ..) (wp_ret (k _ _ hX ?_)))))))
        dsimp only
        rw [begin_conn hX (by omega) (by omega)]
    rw [if_neg hw1] at k
    refine wp_if (fun hw => ?_) (fun hw2 => ?_)
    · rw [if_pos hw] at k
      refine wp_eq (e75_8 ..) (wp_dr rfl (wp_gd rfl ?_))
      refine wp_if (fun hc => ?_) (fun hc => ?_) <;> (dsimp only at hc; rw [rx_CAME hX, z_one_n] at hc)
      · exact wp_eq (e75_9 ..) (wp_eq (e75_11 ..) (wp_ret (k _ _ hX (by rw [hc]; rfl))))
      · have hle := hb.2.2.1 p
        refine wp_eq (e75_10 ..) (wp_dr rfl (wp_gd rfl (wp_dr (by rw [rx_CAME hX]; exact z_one_s hc) (wp_gd rfl (wp_eq (e75_11 ..) (wp_ret (k _ _ hX ?_)))))))
        dsimp only
        rw [begin_conn hX (by omega) (by omega)]
    rw [if_neg hw2] at k
    refine wp_if (fun hw => ?_) (fun hw3 => ?_)
    · rw [if_pos hw] at k
      exact wp_eq (e75_12 ..) (wp_dr rfl (wp_gd rfl (wp_ret (k _ _ hX (by rw [rx_STAT hX])))))
    rw [if_neg hw3] at k
    refine wp_if (fun hw => ?_) (fun hw4 => ?_)
    · rw [if_pos hw] at k
      refine wp_eq (e75_13 ..) (wp_dr rfl (wp_gd rfl ?_))
      refine wp_if (fun hc => ?_) (fun hc => ?_) <;> (dsimp only at hc; rw [rx_AWAIT hX] at hc)
      · exact wp_eq (e75_15 ..) (wp_eq (e75_16 ..) (wp_ret (k _ _ hX (by rw [if_pos hc]))))
      · exact wp_eq (e75_14 ..) (wp_eq (e75_16 ..) (wp_ret (k _ _ hX (by rw [if_neg hc]))))
    rw [if_neg hw4] at k
    refine wp_if (fun hw => ?_) (fun hw5 => ?_)
    · rw [if_pos hw] at k
      exact wp_eq (e75_17 ..) (wp_dr rfl (wp_gd rfl (wp_ret (k _ _ hX (by rw [rx_DUE hX])))))
    rw [if_neg hw5] at k
    refine wp_if (fun hw => ?_) (fun hw6 => ?_)
    · rw [if_pos hw] at k
      exact wp_eq (e75_18 ..) (wp_dr rfl (wp_gd rfl (wp_ret (k _ _ hX (by rw [rx_OVER hX])))))
    rw [if_neg hw6] at k
    refine wp_if (fun hw => ?_) (fun hw7 => ?_)
    · rw [if_pos hw] at k
      exact wp_eq (e75_19 ..) (wp_dr rfl (wp_gd rfl (wp_ret (k _ _ hX (by rw [rx_ANSW hX])))))
    rw [if_neg hw7] at k
    exact wp_eq (e75_20 ..) (wp_ret (k _ _ hX rfl))
theorem mc_connection {T σ : z_St} {A : w_A} (hM : w_M T σ A) {d : Nat} {x w : Int32} {Q : z_St → Option z_V → Prop} (k : ∀ σ v, w_M T σ A → v = some (.inl (fn_cCon A x w)) → Q σ v) : wp (zD (d + 2) 175 [.inr (.inr (some (8, 0))), .inl x, .inl w] σ) Q := by
  unfold fn_cCon at k
  refine wp_eq (c175 ..) (wp_eq (e175_0 ..) (wp_swM (wm_code hM _) fun σ hM => wp_cr (mc_in fun v hv => ⟨_, hv, wp_asI0 ?_⟩)))
  cases hp : fn_pk 8 x with
  | none =>
    rw [hp] at k
    rw [if_pos (by rw [b2i_0]; exact pk_none hp)]
    exact wp_eq (e175_1 ..) (wp_ret (k _ _ hM rfl))
  | some c =>
    rw [if_neg (by rw [b2i_0]; exact fun h => h (pk_is.mp (by rw [hp]; rfl)))]
    obtain ⟨hc8, rfl⟩ := pk_some (by omega) hp
    rw [hp] at k
    have h31 : c + 1 < 2147483648 := by omega
    dsimp only at k
    refine wp_eq (e175_2 ..) ?_
    refine wp_if (fun hw => ?_) (fun hw0 => ?_)
    · rw [if_pos hw] at k
      refine wp_eq (e175_3 ..) (wp_ar (rm_p26 hM) aty_28311856 alen_28311856 rfl (by omega) (by decide) (wp_ret (k _ _ hM ?_)))
      dsimp only
      rw [io_nat h31, rm_CST hM]
    rw [if_neg hw0] at k
    refine wp_if (fun hw => ?_) (fun hw1 => ?_)
    · rw [if_pos hw] at k
      refine wp_eq (e175_4 ..) (wp_ar (rm_p27 hM) aty_29360432 alen_29360432 rfl (by omega) (by decide) (wp_ret (k _ _ hM ?_)))
      dsimp only
      rw [io_nat h31, rm_CPEER hM]
    rw [if_neg hw1] at k
    refine wp_if (fun hw => ?_) (fun hw2 => ?_)
    · rw [if_pos hw] at k
      refine wp_eq (e175_5 ..) (wp_ar (rm_p28 hM) aty_30409008 alen_30409008 rfl (by omega) (by decide) (wp_ret (k _ _ hM ?_)))
      dsimp only
      rw [io_nat h31, rm_CROLE hM]
    rw [if_neg hw2] at k
    refine wp_if (fun hw => ?_) (fun hw3 => ?_)
    · rw [if_pos hw] at k
      refine wp_eq (e175_6 ..) (wp_ar (rm_p30 hM) aty_32506160 alen_32506160 rfl (by omega) (by decide) (wp_ret (k _ _ hM ?_)))
      dsimp only
      rw [io_nat h31, rm_INL hM]
    rw [if_neg hw3] at k
    exact wp_eq (e175_7 ..) (wp_ret (k _ _ hM rfl))
theorem mc_state {T σ : z_St} {A : w_A} (hM : w_M T σ A) {d n : Nat} (hb : z_B n A) {x w : Int32} {Q : z_St → Option z_V → Prop} (k : ∀ σ v, w_M T σ A → v = some (.inl (fn_cState A x w)) → Q σ v) : wp (zD (d + 2) 176 [.inr (.inr (some (8, 0))), .inl x, .inl w] σ) Q := by
  have hb1 := hb.1
  unfold fn_cState at k
  refine wp_eq (c176 ..) (wp_eq (e176_0 ..) (wp_swM (wm_code hM _) fun σ hM => wp_cr (mc_noPeer hM fun v hv => ⟨_, hv, wp_asI0 ?_⟩)))
  cases hp : fn_pk (vN A 0 0) x with
  | none =>
    rw [hp] at k
    rw [if_neg (by rw [b2i_0]; exact fun h => h rfl)]
    exact wp_eq (e176_1 ..) (wp_ret (k _ _ hM rfl))
  | some p =>
    obtain ⟨hp1, rfl⟩ := pk_some (by omega) hp
    rw [hp] at k
    dsimp only at k
    have hp31 : p < 2147483648 := by omega
    have e : Int32.ofNat (p + 1) - 1 = Int32.ofNat p := by rw [show (1 : Int32) = Int32.ofNat 1 from rfl, io_sub (by omega)]; rfl
    rw [if_pos (by rw [b2i_0]; exact fun h => by cases h)]
    refine wp_eq (e176_2 ..) ?_
    refine wp_if (fun hw => ?_) (fun hw0 => ?_)
    · rw [if_pos hw] at k
      refine wp_eq (e176_3 ..) (wp_ar (rm_p11 hM) aty_12583056 alen_12583056 e (by omega) (by decide) (wp_ret (k _ _ hM ?_)))
      dsimp only
      rw [e, io_nat hp31, rm_ST hM]
    rw [if_neg hw0] at k
    refine wp_if (fun hw => ?_) (fun hw1 => ?_)
    · rw [if_pos hw] at k
      refine wp_eq (e176_4 ..) (wp_ar (rm_p13 hM) aty_14680208 alen_14680208 e (by omega) (by decide) (wp_ret (k _ _ hM ?_)))
      dsimp only
      rw [e, io_nat hp31, rm_OWN hM]
    rw [if_neg hw1] at k
    refine wp_if (fun hw => ?_) (fun hw2 => ?_)
    · rw [if_pos hw] at k
      refine wp_eq (e176_5 ..) (wp_ar (rm_p14 hM) aty_15728784 alen_15728784 e (by omega) (by decide) (wp_ret (k _ _ hM ?_)))
      dsimp only
      rw [e, io_nat hp31, rm_CAME hM]
    rw [if_neg hw2] at k
    refine wp_if (fun hw => ?_) (fun hw3 => ?_)
    · rw [if_pos hw] at k
      refine wp_eq (e176_6 ..) (wp_ar (rm_p15 hM) aty_16777360 alen_16777360 e (by omega) (by decide) (wp_ret (k _ _ hM ?_)))
      dsimp only
      rw [e, io_nat hp31, rm_STAT hM]
    rw [if_neg hw3] at k
    refine wp_if (fun hw => ?_) (fun hw4 => ?_)
    · rw [if_pos hw] at k
      refine wp_eq (e176_7 ..) (wp_ar (rm_p16 hM) aty_17825938 alen_17825938 e (by omega) (by decide) ?_)
      refine wp_if (fun hc => ?_) (fun hc => ?_) <;> (dsimp only at hc; rw [e, io_nat hp31, rm_AWAIT hM] at hc)
      · exact wp_eq (e176_9 ..) (wp_eq (e176_10 ..) (wp_ret (k _ _ hM (by rw [if_pos hc]))))
      · exact wp_eq (e176_8 ..) (wp_eq (e176_10 ..) (wp_ret (k _ _ hM (by rw [if_neg hc]))))
    rw [if_neg hw4] at k
    refine wp_if (fun hw => ?_) (fun hw5 => ?_)
    · rw [if_pos hw] at k
      refine wp_eq (e176_11 ..) (wp_ar (rm_p17 hM) aty_18874512 alen_18874512 e (by omega) (by decide) (wp_ret (k _ _ hM ?_)))
      dsimp only
      rw [e, io_nat hp31, rm_DUE hM]
    rw [if_neg hw5] at k
    refine wp_if (fun hw => ?_) (fun hw6 => ?_)
    · rw [if_pos hw] at k
      refine wp_eq (e176_12 ..) (wp_ar (rm_p18 hM) aty_19923088 alen_19923088 e (by omega) (by decide) (wp_ret (k _ _ hM ?_)))
      dsimp only
      rw [e, io_nat hp31, rm_OVER hM]
    rw [if_neg hw6] at k
    refine wp_if (fun hw => ?_) (fun hw7 => ?_)
    · rw [if_pos hw] at k
      refine wp_eq (e176_13 ..) (wp_ar (rm_p19 hM) aty_20971664 alen_20971664 e (by omega) (by decide) (wp_ret (k _ _ hM ?_)))
      dsimp only
      rw [e, io_nat hp31, rm_ANSW hM]
    rw [if_neg hw7] at k
    exact wp_eq (e176_14 ..) (wp_ret (k _ _ hM rfl))
