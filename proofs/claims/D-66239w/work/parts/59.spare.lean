/-! PART 59 (src 59.spare.src): a connection that is free -/
set_option maxHeartbeats 400000
def fn_sp (A : w_A) (r k : Nat) : Option Nat := (fn_from (fun k => decide (vI A 12 (k + 1) = 0)) r k).map (· + 1)
theorem spare_from (A : w_A) : fn_spare A = fn_sp A 8 0 := by
  unfold fn_spare fn_sp
  rw [fn_first_from]
theorem fn_sp_y {A : w_A} {r k : Nat} (h : vI A 12 (k + 1) = 0) : fn_sp A (r + 1) k = some (k + 1) := by
  unfold fn_sp
  rw [fn_from, if_pos (by simpa using h)]
  rfl
theorem fn_sp_n {A : w_A} {r k : Nat} (h : ¬ vI A 12 (k + 1) = 0) : fn_sp A (r + 1) k = fn_sp A r (k + 1) := by
  unfold fn_sp
  rw [fn_from, if_neg (by simpa using h)]
theorem spare_some {A : w_A} {c : Nat} (h : fn_spare A = some c) : 1 ≤ c ∧ c ≤ 8 ∧ vI A 12 c = 0 := by
  rw [spare_from] at h
  unfold fn_sp at h
  cases g : fn_from (fun k => decide (vI A 12 (k + 1) = 0)) 8 0 with
  | none => rw [g] at h; cases h
  | some k =>
    rw [g] at h
    have h : k + 1 = c := Option.some.inj h
    subst h
    have := fn_from_some g
    exact ⟨by omega, by omega, of_decide_eq_true this.2.2⟩
theorem xl_spare {T σ : z_St} {A : w_A} (hX : w_X T σ A) {d : Nat} {Q : z_St → Option z_V → Prop} (k : ∀ v, v = some (.inr (.inr ((fn_spare A).map fun c => (4, c)))) → Q σ v) : ∀ (r i : Nat), i + r = 8 → fn_spare A = fn_sp A r i →
    wp (E xP8 (zD d) 1 [none, some (.inr (.inr (some (1048852, 0)))), some (.inl (Int32.ofNat 8)), some (.inl (Int32.ofNat i)), none] [] σ) Q
  | 0, i, hi, hf => by
    refine wp_eq (e8_1 ..) (wp_if (fun hc => ?_) (fun hc => ?_)) <;> rw [io_le (by omega) (by omega)] at hc
    · refine wp_eq (e8_5 ..) (wp_ret (k _ ?_))
      rw [hf]
      rfl
    · omega
  | r + 1, i, hi, hf => by
    have hl := (rx_links hX i (by omega)).1
    refine wp_eq (e8_1 ..) (wp_if (fun hc => ?_) (fun hc => ?_)) <;> rw [io_le (by omega) (by omega)] at hc
    · omega
    · refine wp_eq (e8_2 ..) (wp_dr rfl (wp_gd (by rw [aty_1048852]; decide) (wp_gd ?_ ?_)))
      · rw [alen_1048852]; exact zin_io (by omega) (by omega)
      rw [io_nat (by omega)]
      refine wp_dr hl (wp_gd rfl ?_)
      dsimp only
      refine wp_if (fun hz => ?_) (fun hz => ?_) <;> rw [rx_CST hX] at hz
      · rw [hl]
        refine wp_eq (e8_3 ..) (wp_ret (k _ ?_))
        rw [hf, fn_sp_y hz]
        rfl
      · refine wp_eq (e8_4 ..) ?_
        rw [io_add_l]
        exact xl_spare hX k r (i + 1) (by omega) (by rw [hf, fn_sp_n hz])
theorem xc_spare {T σ : z_St} {A : w_A} (hX : w_X T σ A) {d : Nat} {Q : z_St → Option z_V → Prop} (k : ∀ v, v = some (.inr (.inr ((fn_spare A).map fun c => (4, c)))) → Q σ v) : wp (zD (d + 1) 8 [.inr (.inr (some (0, 0)))] σ) Q := by
  refine wp_eq (c8 ..) (wp_eq (e8_0 ..) (wp_dr (rx_p0_6 hX) (wp_gd (by rw [aty_1048852]; decide) ?_)))
  rw [rx_p0_6 hX, alen_1048852]
  exact xl_spare hX k 8 0 (by omega) (spare_from A)
/-- what the twin's fresh one leaves, and its number -/
def fn_fr (A : w_A) (s : Int32) : w_A := match fn_spare A with
  | some c => fn_fresh A c s 0 0
  | none => A
def fn_cn (o : Option Nat) : Int32 := match o with
  | some c => Int32.ofNat c
  | none => 0
theorem ml_fresh {T σ : z_St} {A : w_A} (hM : w_M T σ A) {d : Nat} {s : Int32} {Q : z_St → Option z_V → Prop} (k : ∀ σ v, w_M T σ (fn_fr A s) → v = some (.inl (fn_cn (fn_spare A))) → Q σ v) : ∀ (r i : Nat), i + r = 8 → fn_spare A = fn_sp A r i →
    wp (E xP125 (zD d) 1 [some (.inr (.inr (some (8, 0)))), some (.inl s), some (.inl (Int32.ofNat (i + 1)))] [] σ) Q
  | 0, i, hi, hf => by
    refine wp_eq (e125_1 ..) (wp_if (fun hc => ?_) (fun hc => ?_)) <;> rw [io_lle (by omega) (by decide)] at hc
    · have hn : fn_spare A = none := by rw [hf]; rfl
      refine wp_eq (e125_5 ..) (wp_ret (k _ _ (M_cv hM ?_) ?_))
      · unfold fn_fr
        rw [hn]
      · rw [hn]
        rfl
    · omega
  | r + 1, i, hi, hf => by
    have hi31 : i + 1 < 2147483648 := by omega
    refine wp_eq (e125_1 ..) (wp_if (fun hc => ?_) (fun hc => ?_)) <;> rw [io_lle (by omega) (by decide)] at hc
    · omega
    · refine wp_eq (e125_2 ..) (wp_ar (rm_p26 hM) aty_28311856 alen_28311856 rfl (by omega) (by decide) ?_)
      refine wp_if (fun hz => ?_) (fun hz => ?_) <;> (dsimp only at hz; rw [io_nat hi31, rm_CST hM] at hz)
      · have hn : fn_spare A = some (i + 1) := by rw [hf, fn_sp_y hz]
        refine wp_eq (e125_3 ..) (wp_ar (rm_p26 hM) aty_28311856 alen_28311856 rfl (by omega) (by decide) ?_)
        simp only [io_nat hi31]
        refine wp_swM (wm_CST hM _ _) fun σ hM => (wp_ar (rm_p27 hM) aty_29360432 alen_29360432 rfl (by omega) (by decide) ?_)
        simp only [io_nat hi31]
        refine wp_swM (wm_CPEER0 hM _) fun σ hM => (wp_ar (rm_p28 hM) aty_30409008 alen_30409008 rfl (by omega) (by decide) ?_)
        simp only [io_nat hi31]
        refine wp_swM (wm_CROLE hM _ _) fun σ hM => (wp_ar (rm_p30 hM) aty_32506160 alen_32506160 rfl (by omega) (by decide) ?_)
        simp only [io_nat hi31]
        refine wp_swM (wm_INL0 hM _) fun σ hM => (wp_ar (rm_p32 hM) aty_34603312 alen_34603312 rfl (by omega) (by decide) ?_)
        simp only [io_nat hi31]
        have hM2 := m_Q0 hM (i + 1)
        refine wp_sw (wp_ar (show gR σ 8 33 0 = some (35651888, 0) from rm_p33 hM) aty_35651888 alen_35651888 rfl (by omega) (by decide) ?_)
        simp only [io_nat hi31]
        refine wp_sw (wp_ret (k _ _ (M_cv hM2 ?_) ?_))
        · unfold fn_fr fn_fresh
          rw [hn]
          rfl
        · rw [hn]
          rfl
      · refine wp_eq (e125_4 ..) ?_
        rw [io_add_l]
        exact ml_fresh hM k r (i + 1) (by omega) (by rw [hf, fn_sp_n hz])
theorem mc_fresh {T σ : z_St} {A : w_A} (hM : w_M T σ A) {d : Nat} {s : Int32} {Q : z_St → Option z_V → Prop} (k : ∀ σ v, w_M T σ (fn_fr A s) → v = some (.inl (fn_cn (fn_spare A))) → Q σ v) : wp (zD (d + 1) 125 [.inr (.inr (some (8, 0))), .inl s] σ) Q :=
  wp_eq (c125 ..) (wp_eq (e125_0 ..) (ml_fresh hM k 8 0 (by omega) (spare_from A)))
/-- the twin begins on a fresh one, if there is one -/
def fn_bg (A : w_A) (p : Nat) : w_A := match fn_spare A with
  | some c => fn_begin A p c
  | none => A
theorem mc_begin {T σ : z_St} {A : w_A} (hM : w_M T σ A) {d p n : Nat} (hp : p < 4) (hI : z_I n A) (hn : n + 64 < 2147483648) {Q : z_St → Option z_V → Prop} (k : ∀ σ v, w_M T σ (fn_bg A p) → v = some (.inl (fn_cn (fn_spare A))) → Q σ v) : wp (zD (d + 8) 163 [.inr (.inr (some (8, 0))), .inl (Int32.ofNat p)] σ) Q := by
  have hp31 : p < 2147483648 := by omega
  refine wp_eq (c163 ..) (wp_eq (e163_0 ..) (wp_cr (mc_fresh hM fun σ v hM hv => ⟨_, hv, wp_asI0 ?_⟩)))
  cases hs : fn_spare A with
  | none =>
    rw [hs] at k
    refine wp_if (fun _ => ?_) (fun h => absurd (by decide) h)
    refine wp_eq (e163_2 ..) (wp_ret (k _ _ (M_cv hM ?_) rfl))
    unfold fn_fr fn_bg
    rw [hs]
  | some c =>
    obtain ⟨h1, h8, -⟩ := spare_some hs
    rw [hs] at k
    have hc31 : c < 2147483648 := by omega
    have hM : w_M T σ (fn_fresh A c 1 0 0) := M_cv hM (by unfold fn_fr; rw [hs])
    have hI1 : z_Ip n p (sN (fn_fresh A c 1 (p + 1) 1) 9 p c) := by
      unfold fn_fresh
      refine Ip_OWN ?_ h8
      exact Ip_INL (Ip_CPEER (Ip_sI (Ip_sI (I_p hI p) (v := 12) (by decide) (by decide) (by decide) (by decide) (by decide) c 1) (v := 13) (by decide) (by decide) (by decide) (by decide) (by decide) c 1) c (show p + 1 ≤ 4 by omega)) c (show 0 < 600 by omega)
    refine wp_if (fun h => ?_) (fun _ => ?_)
    · rw [show fn_cn (some c) = Int32.ofNat c from rfl, io_le_l (by omega) (by decide)] at h
      omega
    rw [show fn_cn (some c) = Int32.ofNat c from rfl]
    refine wp_eq (e163_1 ..) (wp_ar (rm_p27 hM) aty_29360432 alen_29360432 rfl (by omega) (by decide) ?_)
    simp only [io_nat hc31, io_add_l]
    refine wp_swM (wm_CPEER hM _ (p + 1)) fun σ hM => (wp_ar (rm_p28 hM) aty_30409008 alen_30409008 rfl (by omega) (by decide) ?_)
    simp only [io_nat hc31]
    refine wp_swM (wm_CROLE hM _ _) fun σ hM => (wp_ar (rm_p13 hM) aty_14680208 alen_14680208 rfl (by omega) (by decide) ?_)
    simp only [io_nat hp31]
    refine wp_swM (wm_OWN hM _ c) fun σ hM => ?_
    have e : sN (sI (sN (fn_fresh A c 1 0 0) 11 c (p + 1)) 13 c 1) 9 p c = sN (fn_fresh A c 1 (p + 1) 1) 9 p c := by
      unfold fn_fresh
      show sL (sI (sI (sI (sN (sN (sN (sN A 11 c 0) 14 c 0) 11 c (p + 1)) 9 p c) 12 c 1) 13 c 0) 13 c 1) 3 c [] = sL (sI (sI (sN (sN (sN A 11 c (p + 1)) 14 c 0) 9 p c) 12 c 1) 13 c 1) 3 c []
      rw [sI_sI, sN_or _ (show 11 < 14 by decide), sN_sN]
    rw [e] at hM
    refine wp_cv (mc_become hM hp hI1 (fun h => absurd h (by decide)) (fun h => absurd h (by decide)) hn fun σ hM => ⟨rfl, wp_eq (e163_2 ..) (wp_ret (k _ _ (M_cv hM ?_) rfl))⟩)
    unfold fn_bg
    rw [hs]
    rfl
