/-! PART 54 (src 54.mgive.src): the twin's questions, its connections closed and made fresh -/
set_option maxHeartbeats 400000
theorem mc_isUsable {T σ : z_St} {A : w_A} (hM : w_M T σ A) {d p : Nat} (hp : p < 4) {Q : z_St → Option z_V → Prop} (k : ∀ σ v, w_M T σ A → v = some (.inl (b2i (fn_us A p))) → Q σ v) : wp (zD (d + 1) 131 [.inr (.inr (some (8, 0))), .inl (Int32.ofNat p)] σ) Q := by
  have no : ¬ fn_us A p → wp (E xP131 (zD d) 4 [none, none] [] σ) Q := fun h => wp_eq (e131_4 ..) (wp_eq (e131_5 ..) (wp_gd (.inl rfl) (wp_ret (k _ _ hM (by rw [b2i_f h])))))
  have st : fn_up A p → wp (E xP131 (zD d) 2 [some (.inr (.inr (some (8, 0)))), some (.inl (Int32.ofNat p))] [] σ) Q := by
    intro hu
    refine wp_eq (e131_2 ..) (wp_ar (rm_p15 hM) aty_16777360 alen_16777360 rfl (by omega) (by decide) ?_)
    refine wp_if (fun hc => ?_) (fun hc => ?_) <;> (dsimp only at hc; rw [io_nat (show p < 2147483648 by omega), rm_STAT hM] at hc)
    · exact wp_eq (e131_3 ..) (wp_eq (e131_5 ..) (wp_gd (.inr rfl) (wp_ret (k _ _ hM (by rw [b2i_t ⟨hu, hc⟩])))))
    · exact no fun h => hc h.2
  refine wp_eq (c131 ..) (wp_eq (e131_0 ..) (wp_ar (rm_p11 hM) aty_12583056 alen_12583056 rfl (by omega) (by decide) ?_))
  refine wp_if (fun hc => ?_) (fun hc => ?_) <;> (dsimp only at hc; rw [io_nat (show p < 2147483648 by omega), rm_ST hM] at hc)
  · exact st (.inl hc)
  · refine wp_eq (e131_1 ..) (wp_ar (rm_p11 hM) aty_12583056 alen_12583056 rfl (by omega) (by decide) ?_)
    refine wp_if (fun hz => ?_) (fun hz => ?_) <;> (dsimp only at hz; rw [io_nat (show p < 2147483648 by omega), rm_ST hM] at hz)
    · exact st (.inr hz)
    · exact no fun h => h.1.elim hc hz
/-- the first one, or -1 -/
def fn_ix (o : Option Nat) : Int32 := match o with
  | some i => Int32.ofNat i
  | none => -1
theorem ml_usable {T : z_St} {A : w_A} {d n : Nat} (hB : z_B n A) {Q : z_St → Option z_V → Prop} (k : ∀ σ v, w_M T σ A → v = some (.inl (fn_ix (fn_usable A))) → Q σ v) : ∀ (r i : Nat) (σ : z_St), w_M T σ A → i + r = vN A 0 0 → fn_usable A = fn_from (fun p => decide (fn_us A p)) r i →
    wp (E xP132 (zD (d + 1)) 1 [some (.inr (.inr (some (8, 0)))), some (.inl (Int32.ofNat i))] [] σ) Q
  | 0, i, σ, hM, hi, hf => by
    have hb := hB.1.1
    refine wp_eq (e132_1 ..) (wp_if (fun hc => ?_) (fun hc => ?_)) <;> rw [rm_PEERS hM, io_le (by omega) (by omega)] at hc
    · refine wp_eq (e132_5 ..) (wp_ret (k _ _ hM ?_))
      rw [hf]
      rfl
    · omega
  | r + 1, i, σ, hM, hi, hf => by
    have hb := hB.1.1
    refine wp_eq (e132_1 ..) (wp_if (fun hc => ?_) (fun hc => ?_)) <;> rw [rm_PEERS hM, io_le (by omega) (by omega)] at hc
    · omega
    · refine wp_eq (e132_2 ..) (wp_cr (mc_isUsable hM (by omega) fun σ v hM hv => ⟨_, hv, wp_asI0 ?_⟩))
      refine wp_if (fun hc => ?_) (fun hc => ?_) <;> rw [b2i_0] at hc
      · refine wp_eq (e132_4 ..) ?_
        rw [io_add_l]
        refine ml_usable hB k r (i + 1) σ hM (by omega) ?_
        rw [hf, fn_from, if_neg]
        simpa using hc
      · have hc := Decidable.not_not.mp hc
        refine wp_eq (e132_3 ..) (wp_ret (k _ _ hM ?_))
        rw [hf, fn_from, if_pos]
        · rfl
        · simpa using hc
theorem mc_usable {T σ : z_St} {A : w_A} (hM : w_M T σ A) {d n : Nat} (hB : z_B n A) {Q : z_St → Option z_V → Prop} (k : ∀ σ v, w_M T σ A → v = some (.inl (fn_ix (fn_usable A))) → Q σ v) : wp (zD (d + 2) 132 [.inr (.inr (some (8, 0)))] σ) Q := by
  refine wp_eq (c132 ..) (wp_eq (e132_0 ..) ?_)
  exact ml_usable hB k _ 0 σ hM (Nat.zero_add _) (fn_first_from _ _)
/-- a connection of nobody's -/
theorem ml_shut8 {T σ : z_St} {A : w_A} (hM : w_M T σ A) {d c : Nat} (hc : c < 9) {Q : z_St → Option z_V → Prop} (k : ∀ σ, w_M T σ (fn_close A c) → Q σ none) : wp (E xP124 (zD d) 8 [some (.inr (.inr (some (8, 0)))), some (.inl (Int32.ofNat c)), none] [] σ) Q := by
  refine wp_eq (e124_8 ..) (wp_ar (rm_p26 hM) aty_28311856 alen_28311856 rfl (by omega) (by decide) ?_)
  simp only [io_nat (show c < 2147483648 by omega)]
  refine wp_swM (wm_CST hM _ _) fun σ hM => (wp_ar (rm_p27 hM) aty_29360432 alen_29360432 rfl (by omega) (by decide) ?_)
  simp only [io_nat (show c < 2147483648 by omega)]
  refine wp_swM (wm_CPEER0 hM _) fun σ hM => (wp_ar (rm_p28 hM) aty_30409008 alen_30409008 rfl (by omega) (by decide) ?_)
  simp only [io_nat (show c < 2147483648 by omega)]
  refine wp_swM (wm_CROLE hM _ _) fun σ hM => (wp_ar (rm_p30 hM) aty_32506160 alen_32506160 rfl (by omega) (by decide) ?_)
  simp only [io_nat (show c < 2147483648 by omega)]
  refine wp_swM (wm_INL0 hM _) fun σ hM => wp_ret (k _ (M_cv hM ?_))
  unfold fn_close
  simp only [ev_or, Nat.reduceLT]
theorem mc_shut0 {T σ : z_St} {A : w_A} (hM : w_M T σ A) {d c : Nat} (hc : c < 9) (h0 : vN A 11 c = 0) {Q : z_St → Option z_V → Prop} (k : ∀ σ, w_M T σ (fn_close A c) → Q σ none) : wp (zD (d + 1) 124 [.inr (.inr (some (8, 0))), .inl (Int32.ofNat c)] σ) Q := by
  refine wp_eq (c124 ..) (wp_eq (e124_0 ..) (wp_ar (rm_p27 hM) aty_29360432 alen_29360432 rfl (by omega) (by decide) ?_))
  refine wp_if (fun hz => ?_) (fun hz => ?_) <;> (dsimp only at hz; rw [io_nat (show c < 2147483648 by omega), rm_CPEER hM, h0] at hz)
  · exact ml_shut8 hM hc k
  · exact absurd (by decide) hz
theorem mc_shutOwn {T σ : z_St} {A : w_A} (hM : w_M T σ A) {d p c : Nat} (hp : p < 4) (hc : c < 9) (h0 : ¬ c = 0) (ho : vN A 9 p = c) (h1 : vN A 11 c = p + 1) (h2 : vI A 13 c = 1) {Q : z_St → Option z_V → Prop} (k : ∀ σ, w_M T σ (fn_closeOwn A p) → Q σ none) : wp (zD (d + 1) 124 [.inr (.inr (some (8, 0))), .inl (Int32.ofNat c)] σ) Q := by
  have e : Int32.ofNat (p + 1) - 1 = Int32.ofNat p := by rw [show (1 : Int32) = Int32.ofNat 1 from rfl, io_sub (by omega)]; rfl
  refine wp_eq (c124 ..) (wp_eq (e124_0 ..) (wp_ar (rm_p27 hM) aty_29360432 alen_29360432 rfl (by omega) (by decide) ?_))
  simp only [io_nat (show c < 2147483648 by omega)]
  rw [rm_CPEER hM, h1, e]
  refine wp_if (fun hz => ?_) (fun hz => ?_) <;> rw [io_lt_l (by omega) (by decide)] at hz
  · omega
  refine wp_eq (e124_1 ..) (wp_ar (rm_p28 hM) aty_30409008 alen_30409008 rfl (by omega) (by decide) ?_)
  simp only [io_nat (show c < 2147483648 by omega)]
  rw [rm_CROLE hM, if_pos h2]
  refine wp_eq (e124_2 ..) (wp_eq (e124_4 ..) (wp_ar (rm_p13 hM) aty_14680208 alen_14680208 rfl (by omega) (by decide) ?_))
  simp only [io_nat (show p < 2147483648 by omega)]
  refine wp_swM (wm_OWN0 hM _) fun σ hM => (wp_ar (rm_p28 hM) aty_30409008 alen_30409008 rfl (by omega) (by decide) ?_)
  refine wp_if (fun hy => ?_) (fun hy => ?_) <;> (dsimp only at hy; rw [io_nat (show c < 2147483648 by omega), rm_CROLE hM, vI_sN, h2] at hy)
  · exact absurd hy (by decide)
  refine wp_eq (e124_6 ..) (wp_ar (rm_p14 hM) aty_15728784 alen_15728784 rfl (by omega) (by decide) ?_)
  simp only [io_nat (show p < 2147483648 by omega)]
  refine wp_eq (e124_7 ..) (wp_ar (rm_p14 hM) aty_15728784 alen_15728784 rfl (by omega) (by decide) ?_)
  simp only [io_nat (show p < 2147483648 by omega)]
  rw [rm_CAME hM]
  refine wp_swM (wm_CAME hM _ _) fun σ hM => ?_
  rw [sN_id _ rfl] at hM
  refine ml_shut8 hM hc fun σ hM => k σ (M_cv hM ?_)
  unfold fn_closeOwn
  rw [ho, if_neg h0]
  unfold fn_close
  simp only [ev_or, Nat.reduceLT]
theorem mc_shutCame {T σ : z_St} {A : w_A} (hM : w_M T σ A) {d p c : Nat} (hp : p < 4) (hc : c < 9) (h0 : ¬ c = 0) (ho : vN A 10 p = c) (h1 : vN A 11 c = p + 1) (h2 : vI A 13 c = 2) {Q : z_St → Option z_V → Prop} (k : ∀ σ, w_M T σ (fn_closeCame A p) → Q σ none) : wp (zD (d + 1) 124 [.inr (.inr (some (8, 0))), .inl (Int32.ofNat c)] σ) Q := by
  have e : Int32.ofNat (p + 1) - 1 = Int32.ofNat p := by rw [show (1 : Int32) = Int32.ofNat 1 from rfl, io_sub (by omega)]; rfl
  refine wp_eq (c124 ..) (wp_eq (e124_0 ..) (wp_ar (rm_p27 hM) aty_29360432 alen_29360432 rfl (by omega) (by decide) ?_))
  simp only [io_nat (show c < 2147483648 by omega)]
  rw [rm_CPEER hM, h1, e]
  refine wp_if (fun hz => ?_) (fun hz => ?_) <;> rw [io_lt_l (by omega) (by decide)] at hz
  · omega
  refine wp_eq (e124_1 ..) (wp_ar (rm_p28 hM) aty_30409008 alen_30409008 rfl (by omega) (by decide) ?_)
  simp only [io_nat (show c < 2147483648 by omega)]
  rw [rm_CROLE hM, if_neg (by rw [h2]; decide)]
  refine wp_eq (e124_3 ..) (wp_ar (rm_p13 hM) aty_14680208 alen_14680208 rfl (by omega) (by decide) ?_)
  simp only [io_nat (show p < 2147483648 by omega)]
  refine wp_eq (e124_4 ..) (wp_ar (rm_p13 hM) aty_14680208 alen_14680208 rfl (by omega) (by decide) ?_)
  simp only [io_nat (show p < 2147483648 by omega)]
  rw [rm_OWN hM]
  refine wp_swM (wm_OWN hM _ _) fun σ hM => (wp_ar (rm_p28 hM) aty_30409008 alen_30409008 rfl (by omega) (by decide) ?_)
  rw [sN_id _ rfl] at hM
  simp only [io_nat (show c < 2147483648 by omega)]
  rw [rm_CROLE hM, if_pos h2]
  refine wp_eq (e124_5 ..) (wp_eq (e124_7 ..) (wp_ar (rm_p14 hM) aty_15728784 alen_15728784 rfl (by omega) (by decide) ?_))
  simp only [io_nat (show p < 2147483648 by omega)]
  refine wp_swM (wm_CAME0 hM _) fun σ hM => ?_
  refine ml_shut8 hM hc fun σ hM => k σ (M_cv hM ?_)
  unfold fn_closeCame
  rw [ho, if_neg h0]
  unfold fn_close
  simp only [ev_or, Nat.reduceLT]
