/-! PART 63 (src 63.tells.src): what is told: clock, lost, sessions, waiting -/
set_option maxHeartbeats 400000
theorem xc_clock {T σ : z_St} {A : w_A} (hX : w_X T σ A) {d : Nat} {Q : z_St → Option z_V → Prop} (k : ∀ σ v, w_X T σ A → v = some (.inl (Int32.ofNat (vN A 5 0))) → Q σ v) : wp (zD (d + 1) 71 [.inr (.inr (some (0, 0)))] σ) Q :=
  wp_eq (c71 ..) (wp_eq (e71_0 ..) (wp_ret (k _ _ hX (by rw [rx_NOW hX]))))
theorem mc_clock {T σ : z_St} {A : w_A} (hM : w_M T σ A) {d : Nat} {Q : z_St → Option z_V → Prop} (k : ∀ σ v, w_M T σ A → v = some (.inl (Int32.ofNat (vN A 5 0))) → Q σ v) : wp (zD (d + 1) 172 [.inr (.inr (some (8, 0)))] σ) Q :=
  wp_eq (c172 ..) (wp_eq (e172_0 ..) (wp_swM (wm_code hM _) fun σ hM => wp_ret (k _ _ hM (by rw [rm_NOW hM]))))
theorem xc_lost {T σ : z_St} {A : w_A} (hX : w_X T σ A) {d : Nat} {Q : z_St → Option z_V → Prop} (k : ∀ σ v, w_X T σ A → v = some (.inl (vI A 14 0)) → Q σ v) : wp (zD (d + 1) 83 [.inr (.inr (some (0, 0)))] σ) Q :=
  wp_eq (c83 ..) (wp_eq (e83_0 ..) (wp_ret (k _ _ hX (by rw [rx_LOST hX]))))
theorem mc_lost {T σ : z_St} {A : w_A} (hM : w_M T σ A) {d : Nat} {Q : z_St → Option z_V → Prop} (k : ∀ σ v, w_M T σ A → v = some (.inl (vI A 14 0)) → Q σ v) : wp (zD (d + 1) 185 [.inr (.inr (some (8, 0)))] σ) Q :=
  wp_eq (c185 ..) (wp_eq (e185_0 ..) (wp_swM (wm_code hM _) fun σ hM => wp_ret (k _ _ hM (by rw [rm_LOST hM]))))
theorem xc_sessions {T σ : z_St} {A : w_A} (hX : w_X T σ A) {d : Nat} {Q : z_St → Option z_V → Prop} (k : ∀ σ v, w_X T σ A → v = some (.inl (Int32.ofNat (vN A 2 0))) → Q σ v) : wp (zD (d + 1) 78 [.inr (.inr (some (0, 0)))] σ) Q :=
  wp_eq (c78 ..) (wp_eq (e78_0 ..) (wp_ret (k _ _ hX (by rw [rx_SESS hX]))))
theorem mc_sessions {T σ : z_St} {A : w_A} (hM : w_M T σ A) {d : Nat} {Q : z_St → Option z_V → Prop} (k : ∀ σ v, w_M T σ A → v = some (.inl (Int32.ofNat (vN A 2 0))) → Q σ v) : wp (zD (d + 1) 179 [.inr (.inr (some (8, 0)))] σ) Q :=
  wp_eq (c179 ..) (wp_eq (e179_0 ..) (wp_swM (wm_code hM _) fun σ hM => wp_ret (k _ _ hM (by rw [rm_SESS hM]))))
def fn_cWait (A : w_A) (x : Int32) : Int32 := match fn_pk 8 x with
  | none => -1
  | some k => Int32.ofNat (vL A 3 (k + 1)).length
theorem xc_waiting {T σ : z_St} {A : w_A} (hX : w_X T σ A) {d : Nat} {x : Int32} {Q : z_St → Option z_V → Prop} (k : ∀ σ v, w_X T σ A → v = some (.inl (fn_cWait A x)) → Q σ v) : wp (zD (d + 3) 73 [.inr (.inr (some (0, 0))), .inl x] σ) Q := by
  unfold fn_cWait at k
  refine wp_eq (c73 ..) (wp_eq (e73_0 ..) (wp_cr (xc_linkAt hX fun v hv => ⟨_, hv, ?_⟩)))
  rw [asR_mk]
  cases hp : fn_pk 8 x with
  | none =>
    rw [hp] at k
    refine wp_if (fun _ => ?_) (fun h => absurd (by rfl) h)
    exact wp_eq (e73_1 ..) (wp_eq (e73_3 ..) (wp_ret (k _ _ hX rfl)))
  | some c =>
    obtain ⟨hc8, rfl⟩ := pk_some (by omega) hp
    rw [hp] at k
    rw [if_neg (by simp)]
    refine wp_eq (e73_2 ..) (wp_dr rfl (wp_gd rfl (wp_eq (e73_3 ..) (wp_ret (k _ _ hX ?_)))))
    dsimp only
    rw [((rx_H hX) (c + 1) (by omega) (by omega)).2.1]
theorem mc_waiting {T σ : z_St} {A : w_A} (hM : w_M T σ A) {d : Nat} {x : Int32} {Q : z_St → Option z_V → Prop} (k : ∀ σ v, w_M T σ A → v = some (.inl (fn_cWait A x)) → Q σ v) : wp (zD (d + 2) 174 [.inr (.inr (some (8, 0))), .inl x] σ) Q := by
  unfold fn_cWait at k
  refine wp_eq (c174 ..) (wp_eq (e174_0 ..) (wp_swM (wm_code hM _) fun σ hM => wp_cr (mc_in fun v hv => ⟨_, hv, wp_asI0 ?_⟩)))
  cases hp : fn_pk 8 x with
  | none =>
    rw [hp] at k
    rw [if_pos (by rw [b2i_0]; exact pk_none hp)]
    exact wp_eq (e174_2 ..) (wp_eq (e174_3 ..) (wp_ret (k _ _ hM rfl)))
  | some c =>
    rw [if_neg (by rw [b2i_0]; exact fun h => h (pk_is.mp (by rw [hp]; rfl)))]
    obtain ⟨hc8, rfl⟩ := pk_some (by omega) hp
    rw [hp] at k
    refine wp_eq (e174_1 ..) (wp_ar (rm_p32 hM) aty_34603312 alen_34603312 rfl (by omega) (by decide) (wp_eq (e174_3 ..) (wp_ret (k _ _ hM ?_))))
    dsimp only
    rw [io_nat (show c + 1 < 2147483648 by omega), ((rm_H hM) (c + 1) (by omega) (by omega)).2.1]
