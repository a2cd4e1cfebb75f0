/-! PART 57 (src 57.mconn.src): the twin's connections: answered, chosen, gone, begun -/
set_option maxHeartbeats 400000
theorem ml_later {d p : Nat} {l m : List Int32} {T σ : z_St} {A : w_A} (hM : w_M T σ A) (hp : p < 4) (el : vL A 1 0 = l) (em : vL A 2 p = m) (hl : l.length ≤ 40) (hm : m.length ≤ 40) {Q : z_St → Option z_V → Prop} (k : ∀ v, v = some (.inl (@b2i (fn_later l m) (fn_laterD l m))) → Q σ v) : ∀ (r i : Nat), i + r = l.length + 1 → i ≤ l.length → i ≤ m.length → (fn_later l m ↔ fn_later (l.drop i) (m.drop i)) →
    wp (E xP90 (zD d) 1 [some (.inr (.inr (some (8, 0)))), some (.inl (Int32.ofNat p)), some (.inl (Int32.ofNat i))] [] σ) Q
  | 0, i, hi, hil, him, hf => by omega
  | r + 1, i, hi, hil, him, hf => by
    have hG := rm_G hM
    unfold m_G at hG
    rw [el] at hG
    have hP := hG.2.2.2.2.1 p hp
    rw [em] at hP
    have h1 := hG.2.2.1
    have h1c := hG.2.2.2.1
    have hp31 : p < 2147483648 := by omega
    have hi31 : i < 2147483648 := by omega
    have hpi : 40 * p + i < 2147483648 := by omega
    have hix : (40 * Int32.ofNat p) + Int32.ofNat i = Int32.ofNat (40 * p + i) := by rw [io_lmul, io_add]
    have k1 : fn_later l m → Q σ (some (.inl 1)) := fun h => k _ (by rw [@b2i_t _ (fn_laterD l m) h])
    have k0 : ¬ fn_later l m → Q σ (some (.inl 0)) := fun h => k _ (by rw [@b2i_f _ (fn_laterD l m) h])
    have done : (i = l.length ∨ i = m.length) → wp (E xP90 (zD d) 9 [some (.inr (.inr (some (8, 0)))), some (.inl (Int32.ofNat p)), none] [] σ) Q := by
      intro hne
      refine wp_eq (e90_9 ..) (wp_ar (rm_p9 hM) aty_10485904 alen_10485904 rfl (by omega) (by decide) ?_)
      refine wp_if (fun hz => ?_) (fun hz => ?_) <;> (dsimp only at hz; rw [io_nat hp31, h1, hP.1, io_le (by omega) (by omega)] at hz)
      · refine wp_eq (e90_11 ..) (wp_eq (e90_12 ..) (wp_gd (.inl rfl) (wp_ret (k0 ?_))))
        rw [hf, show i = l.length by omega, List.drop_length]
        cases m.drop l.length <;> exact id
      · refine wp_eq (e90_10 ..) (wp_eq (e90_12 ..) (wp_gd (.inr rfl) (wp_ret (k1 ?_))))
        rw [hf, show i = m.length by omega, List.drop_length, List.drop_eq_getElem_cons (show m.length < l.length by omega)]
        trivial
    refine wp_eq (e90_1 ..) (wp_if (fun hc => ?_) (fun hc => ?_)) <;> rw [h1, io_le (by omega) (by omega)] at hc
    · exact done (.inl (by omega))
    · refine wp_eq (e90_2 ..) (wp_ar (rm_p9 hM) aty_10485904 alen_10485904 rfl (by omega) (by decide) ?_)
      refine wp_if (fun hz => ?_) (fun hz => ?_) <;> (dsimp only at hz; rw [io_nat hp31, hP.1, io_le (by omega) (by omega)] at hz)
      · exact done (.inr (by omega))
      · have a1 : i < l.length := by omega
        have a2 : i < m.length := by omega
        have v1 : gI σ 8389905 0 i = l[i] := by have := h1c i a1; rwa [Nat.zero_add] at this
        have v2 : gI σ 9442321 0 (40 * p + i) = m[i] := hP.2 i a2
        refine wp_eq (e90_3 ..) (wp_ar (rm_p5 hM) aty_8389905 alen_8389905 rfl (by omega) (by decide) (wp_ar (rm_p8 hM) aty_9442321 alen_9442321 hix (by omega) (by decide) ?_))
        refine wp_if (fun hw => ?_) (fun hw => ?_) <;> (dsimp only at hw; rw [hix, io_nat hi31, io_nat hpi, v1, v2] at hw)
        · refine wp_eq (e90_8 ..) ?_
          rw [io_add_l]
          refine ml_later hM hp el em hl hm k r (i + 1) (by omega) (by omega) (by omega) ?_
          rw [hf, List.drop_eq_getElem_cons a1, List.drop_eq_getElem_cons a2, fn_later, if_pos hw]
        · have hlat : fn_later l m ↔ m[i] < l[i] := by
            rw [hf, List.drop_eq_getElem_cons a1, List.drop_eq_getElem_cons a2, fn_later, if_neg hw]
          refine wp_eq (e90_4 ..) (wp_ar (rm_p5 hM) aty_8389905 alen_8389905 rfl (by omega) (by decide) (wp_ar (rm_p8 hM) aty_9442321 alen_9442321 hix (by omega) (by decide) ?_))
          refine wp_if (fun hy => ?_) (fun hy => ?_) <;> (dsimp only at hy; rw [hix, io_nat hi31, io_nat hpi, v1, v2] at hy)
          · refine wp_eq (e90_6 ..) (wp_eq (e90_7 ..) (wp_gd (.inl rfl) (wp_ret (k0 ?_))))
            rw [hlat]
            exact Int32.not_lt.mpr hy
          · refine wp_eq (e90_5 ..) (wp_eq (e90_7 ..) (wp_gd (.inr rfl) (wp_ret (k1 ?_))))
            rw [hlat]
            exact Int32.not_le.mp hy
theorem mc_later {T σ : z_St} {A : w_A} (hM : w_M T σ A) {d p : Nat} (hp : p < 4) (hl : z_nm (vL A 1 0)) (hm : z_nm (vL A 2 p)) {Q : z_St → Option z_V → Prop} (k : ∀ v, v = some (.inl (b2i (fn_lt A p = true))) → Q σ v) : wp (zD (d + 1) 90 [.inr (.inr (some (8, 0))), .inl (Int32.ofNat p)] σ) Q := by
  refine wp_eq (c90 ..) (wp_eq (e90_0 ..) ?_)
  refine ml_later hM hp rfl rfl hl.1 hm.1 (fun v hv => k v ?_) _ 0 (Nat.zero_add _) (Nat.zero_le _) (Nat.zero_le _) (by rw [List.drop_zero, List.drop_zero])
  rw [hv]
  congr 2
  unfold fn_lt b2i
  by_cases h : fn_later (vL A 1 0) (vL A 2 p)
  · rw [@if_pos _ (fn_laterD _ _) h, if_pos (@decide_eq_true _ (fn_laterD _ _) h)]
  · rw [@if_neg _ (fn_laterD _ _) h, if_neg (by rw [@decide_eq_false _ (fn_laterD _ _) h]; decide)]
theorem mc_accepts {T σ : z_St} {A : w_A} (hM : w_M T σ A) {d p n : Nat} (hp : p < 4) (hI : z_Ip n p A) (hz : ¬ vN A 10 p = 0) (hn : n + 64 < 2147483648) {Q : z_St → Option z_V → Prop} (k : ∀ σ, w_M T σ (fn_opened A p) → Q σ none) : wp (zD (d + 8) 127 [.inr (.inr (some (8, 0))), .inl (Int32.ofNat p)] σ) Q := by
  refine wp_eq (c127 ..) (wp_eq (e127_0 ..) (wp_cv (mc_answerCame hM hp hI.1 hz fun σ hM => ⟨rfl, ?_⟩)))
  exact wp_cv (mc_become hM hp (Ip_ansCame hI) (fun _ => by rw [ansCame_CAME]; exact hz) (fun h => absurd h (by decide)) hn fun σ hM => ⟨rfl, wp_ret (k _ hM)⟩)
theorem mc_choose {T σ : z_St} {A : w_A} (hM : w_M T σ A) {d p n : Nat} (hp : p < 4) (hI : z_Ip n p A) (hz : ¬ vN A 10 p = 0) (ho : ¬ vN A 9 p = 0) (h1 : vN A 11 (vN A 9 p) = p + 1) (h2 : vI A 13 (vN A 9 p) = 1) (hn : n + 64 < 2147483648) {Q : z_St → Option z_V → Prop} (k : ∀ σ, w_M T σ (fn_choose A p) → Q σ none) : wp (zD (d + 8) 128 [.inr (.inr (some (8, 0))), .inl (Int32.ofNat p)] σ) Q := by
  have hO := (hI.1.2.2.1 p).1
  have hp31 : p < 2147483648 := by omega
  refine wp_eq (c128 ..) (wp_eq (e128_0 ..) ?_)
  refine wp_cr (mc_later hM hp hI.1.2.2.2.2.2.2.2.1 (hI.1.2.2.2.2.2.2.2.2.1 p) fun v hv => ⟨_, hv, wp_asI0 ?_⟩)
  refine wp_if (fun hc => ?_) (fun hc => ?_) <;> rw [b2i_0] at hc
  · refine wp_eq (e128_2 ..) (wp_cv (mc_become hM hp hI (fun h => absurd h (by decide)) (fun h => absurd h (by decide)) hn fun σ hM => ⟨rfl, wp_eq (e128_3 ..) (wp_ret (k _ (M_cv hM ?_)))⟩))
    unfold fn_choose
    rw [if_neg hc]
  · have hc := Decidable.not_not.mp hc
    refine wp_eq (e128_1 ..) (wp_ar (rm_p13 hM) aty_14680208 alen_14680208 rfl (by omega) (by decide) ?_)
    simp only [io_nat hp31]
    rw [rm_OWN hM]
    refine wp_cv (mc_shutOwn hM hp (by omega) ho rfl h1 h2 fun σ hM => ⟨rfl, ?_⟩)
    have hz2 : ¬ vN (fn_closeOwn A p) 10 p = 0 := by rw [closeOwn_N _ _ (by decide) (by decide) (by decide)]; exact hz
    refine wp_cv (mc_answerCame hM hp (Ip_closeOwn hI).1 hz2 fun σ hM => ⟨rfl, ?_⟩)
    refine wp_cv (mc_become hM hp (Ip_ansCame (Ip_closeOwn hI)) (fun _ => by rw [ansCame_CAME]; exact hz2) (fun h => absurd h (by decide)) hn fun σ hM => ⟨rfl, wp_eq (e128_3 ..) (wp_ret (k _ (M_cv hM ?_)))⟩)
    unfold fn_choose
    rw [if_pos hc]
    rfl
