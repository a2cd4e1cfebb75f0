/-! PART 94d (src 94d.account.src): an account is opened, on both sides -/
set_option maxHeartbeats 400000
/-- what was made so far, by the counts -/
def z_ct (L : Nat) (A : w_A) (T : z_St) : Prop := cn T 14 = L ∧ cn T 9 = vN A 0 0 ∧ cn T 10 = vN A 1 0 ∧ cn T 1 = 276 + vN A 0 0 ∧ cn T 80741649 = 276 + vN A 0 0 ∧ (al T).length ≤ 100000 + 3 * vN A 0 0 + vN A 1 0 ∧ z_sl (al T) ≤ 1000000 + 100 * vN A 0 0 + 10 * vN A 1 0
def fn_cAccount (A : w_A) (y b : Int64) : w_A × Int32 := if ¬ (1 ≤ y ∧ y ≤ 99999999999999999) ∨ ¬ (0 ≤ b ∧ b ≤ 1152921504606846976) then (A, -2)
  else if (fn_acct A y).isSome = true then (A, -3)
  else if vN A 1 0 = 16 then (A, -4)
  else (sN (sJ (sJ A 0 (vN A 1 0) y) 1 (vN A 1 0) b) 1 0 (vN A 1 0 + 1), Int32.ofNat (vN A 1 0 + 1))
theorem nO_wI (σ : z_St) (a n b c m : Nat) (x : Int32) (h : ¬ b = a) : nO (wI σ b c m x) a n = wI (nO σ a n) b c m x := by
  have e : z_col (z_row σ.2.2.1 b c (va_up (gI σ b c) m x)) a n 0 = z_row (z_col σ.2.2.1 a n 0) b c (va_up (gI (nO σ a n) b c) m x) := by
    funext p q
    unfold z_col z_row
    by_cases e1 : p = a
    · rw [if_pos e1, if_neg (fun g => h (g.1.symm.trans e1)), if_neg (fun g => h (g.1.symm.trans e1))]
      exact (if_pos e1).symm
    · rw [if_neg e1]
      by_cases e2 : p = b ∧ q = c
      · rw [if_pos e2, if_pos e2]
        obtain ⟨rfl, rfl⟩ := e2
        have : gI (nO σ a n) p q = gI σ p q := by
          show z_col σ.2.2.1 a n 0 p q = _
          unfold z_col
          rw [if_neg e1]
          rfl
        rw [this]
      · rw [if_neg e2, if_neg e2]
        exact (if_neg e1).symm
  show (va_up σ.1 a (σ.1 a + 1), σ.2.1 ++ [(a, n)], z_col (z_row σ.2.2.1 b c (va_up (gI σ b c) m x)) a n 0, z_col σ.2.2.2.1 a n 0, z_col σ.2.2.2.2 a n none) = _
  rw [e]
  rfl
theorem X_nO10 {T σ : z_St} {A : w_A} (h : w_X T σ A) {a : Nat} (hz : ∀ v, v ≤ 3 → vJ A v a = 0) : w_X (cn (nO σ 10 a), al (nO σ 10 a), T.2.2) (nO σ 10 a) A := by
  obtain ⟨hT, hA, hB, hC, hD, hE, hF, hG, hH, hI, hJ, hK, hL, hM, hN⟩ := h
  have key : ∀ v i, v ≤ 3 → gJ σ 10 v i = vJ A v i → gJ (nO σ 10 a) 10 v i = vJ A v i := fun v i hv g => by
    show va_up (gJ σ 10 v) a 0 i = _
    unfold va_up
    by_cases e : i = a
    · rw [if_pos e, e, hz v hv]
    · rw [if_neg e]; exact g
  refine ⟨⟨fun c hc => ?_, rfl, rfl⟩, hA, hB, hC, ⟨fun i => key 0 i (by decide) (hD.1 i), fun i => key 1 i (by decide) (hD.2.1 i), fun i => key 2 i (by decide) (hD.2.2.1 i), fun i => key 3 i (by decide) (hD.2.2.2.1 i), hD.2.2.2.2⟩, hE, hF, hG, hH, hI, hJ, hK, hL, hM, hN⟩
  have hc10 : ¬ c = 10 := fun e => by
    subst e
    rcases hc with g | g
    · unfold z_isM at g; omega
    · omega
  obtain ⟨g1, g2, g3⟩ := hT.1 c hc
  refine ⟨?_, ?_, ?_⟩
  · funext d m
    show z_col σ.2.2.1 10 a 0 c d m = gI T c d m
    unfold z_col
    rw [if_neg hc10, ← g1]
    rfl
  · funext d m
    show z_col σ.2.2.2.1 10 a 0 c d m = gJ T c d m
    unfold z_col
    rw [if_neg hc10, ← g2]
    rfl
  · funext d m
    show z_col σ.2.2.2.2 10 a none c d m = gR T c d m
    unfold z_col
    rw [if_neg hc10, ← g3]
    rfl
theorem X_ACCS {T σ : z_St} {A : w_A} (h : w_X T σ A) : w_X T (wR (wI σ 0 10 0 (Int32.ofNat (vN A 1 0 + 1))) 3146262 0 (vN A 1 0) (some (10, vN A 1 0))) (sN A 1 0 (vN A 1 0 + 1)) := by
  obtain ⟨hT, hA, hB, hC, hD, hE, hF, hG, hH, hI, hJ, hK, hL, hM, hN⟩ := h
  refine ⟨x_T_wR (x_T_wI hT (z_isM_dec _ rfl)) (z_isM_dec _ rfl), hA, hB, ⟨hC.1, ?_, hC.2.2⟩, hD, hE, ⟨hF.1, fun k hk => ?_⟩, hG, hH, hI, hJ, hK, hL, hM, hN⟩
  · show gI (wI σ 0 10 0 (Int32.ofNat (vN A 1 0 + 1))) 0 10 0 = _
    rw [gI_wI, if_pos ⟨rfl, rfl, rfl⟩]
    rfl
  · have hk : k < vN A 1 0 + 1 := hk
    rw [gR_wR]
    by_cases e : k = vN A 1 0
    · rw [if_pos ⟨rfl, rfl, e⟩, e]
    · rw [if_neg (fun g => e g.2.2)]
      exact hF.2 k (by omega)
theorem xc_account {T σ : z_St} {A : w_A} (hX : w_X T σ A) {n : Nat} (hB : z_B n A) {L : Nat} (hc : z_ct L A T) (hz : ∀ v, v ≤ 3 → vJ A v (vN A 1 0) = 0) {d : Nat} {y b : Int64} {Q : z_St → Option z_V → Prop} (k : ∀ T' σ v, T'.2.2 = T.2.2 → z_ct L (fn_cAccount A y b).1 T' → w_X T' σ (fn_cAccount A y b).1 → v = some (.inl (fn_cAccount A y b).2) → Q σ v) : wp (zD (d + 2 + 1) 76 [.inr (.inr (some (0, 0))), .inr (.inl y), .inr (.inl b)] σ) Q := by
  have hb := hB.1
  unfold fn_cAccount at k
  refine wp_eq (c76 ..) (wp_eq (e76_0 ..) (wp_cr (xc_isIn (d := d + 1) fun v hv => ⟨_, hv, wp_asI0 ?_⟩)))
  refine wp_if (fun h => ?_) (fun h => ?_) <;> rw [b2i_0] at h
  · rw [if_pos (.inl h)] at k
    exact wp_eq (e76_2 ..) (wp_ret (k T _ _ rfl hc hX rfl))
  have h1 := Classical.not_not.mp h
  refine wp_eq (e76_1 ..) (wp_cr (xc_isIn (d := d + 1) fun v hv => ⟨_, hv, wp_asI0 ?_⟩))
  refine wp_if (fun h => ?_) (fun h => ?_) <;> rw [b2i_0] at h
  · rw [if_pos (.inr h)] at k
    exact wp_eq (e76_2 ..) (wp_ret (k T _ _ rfl hc hX rfl))
  have h2 := Classical.not_not.mp h
  rw [if_neg (fun g => g.elim (fun g => g h1) (fun g => g h2))] at k
  refine wp_eq (e76_3 ..) (wp_cr (xc_acct (d := d) hX hb.2.1 ⟨_, rfl, wp_asR0 ?_⟩))
  cases ha : fn_acct A y with
  | some a =>
    rw [ha, if_pos (show (some a).isSome = true from rfl)] at k
    exact wp_if (fun q => absurd q (by simp)) (fun _ => wp_eq (e76_4 ..) (wp_ret (k T _ _ rfl hc hX rfl)))
  | none =>
    rw [ha, if_neg (by decide)] at k
    refine wp_if (fun _ => ?_) (fun q => absurd rfl q)
    refine wp_eq (e76_5 ..) ?_
    rw [rx_ACCS hX]
    refine wp_if (fun h => ?_) (fun h => ?_) <;> rw [show (16 : Int32) = Int32.ofNat 16 from rfl, io_inj (by omega) (by omega)] at h
    · rw [if_pos h] at k
      exact wp_eq (e76_6 ..) (wp_ret (k T _ _ rfl hc hX rfl))
    rw [if_neg h] at k
    have hcn : cn σ 10 + z_off 10 = vN A 1 0 := by
      rw [hX.1.2.1, hc.2.2.1]
      rfl
    refine wp_eq (e76_7 ..) ?_
    rw [rx_ACCS hX, io_add_l]
    refine wp_sw (wp_sw ?_)
    rw [show cn (wI σ 0 10 0 (Int32.ofNat (vN A 1 0 + 1))) 10 + z_off 10 = vN A 1 0 from hcn, nO_wI _ _ _ _ _ _ _ (by decide)]
    have hX1 := X_nO10 hX hz
    have hX2 := wx_ANUM hX1 (vN A 1 0) y
    have hX3 := wx_ABAL hX2 (vN A 1 0) b
    have hX4 := X_ACCS hX3
    refine wp_cv (wp_eq (c186 ..) (wp_eq (e186_0 ..) (wp_sw (wp_sw (wp_ret ⟨rfl, ?_⟩)))))
    refine wp_dr (rx_p0_9 hX) (wp_gd (by rw [aty_3146262]; decide) (wp_gd (by rw [alen_3146262]; exact zin_io (by omega) (by decide)) ?_))
    dsimp only
    rw [io_nat (by omega)]
    refine wp_sw (wp_ret (k _ _ _ ?_ ?_ hX4 ?_))
    · rfl
    · obtain ⟨c0, c1, c2, c3, c4, c5, c6⟩ := hc
      have ecn : ∀ a, ¬ a = 10 → cn (nO σ 10 (vN A 1 0)) a = cn T a := fun a e => by
        show va_up σ.1 10 (σ.1 10 + 1) a = _
        unfold va_up
        rw [if_neg e]
        exact congrFun hX.1.2.1 a
      have eal : al (nO σ 10 (vN A 1 0)) = al T ++ [(10, vN A 1 0)] := by
        show al σ ++ _ = _
        rw [hX.1.2.2]
      refine ⟨(ecn 14 (by decide)).trans c0, (ecn 9 (by decide)).trans c1, ?_, (ecn 1 (by decide)).trans c3, (ecn 80741649 (by decide)).trans c4, ?_, ?_⟩
      · show va_up σ.1 10 (σ.1 10 + 1) 10 = vN A 1 0 + 1
        unfold va_up
        rw [if_pos rfl, show σ.1 10 = cn T 10 from congrFun hX.1.2.1 10, c2]
      · show (al (nO σ 10 (vN A 1 0))).length ≤ 100000 + 3 * vN A 0 0 + (vN A 1 0 + 1)
        rw [eal, List.length_append, List.length_singleton]
        omega
      · show z_sl (al (nO σ 10 (vN A 1 0))) ≤ 1000000 + 100 * vN A 0 0 + 10 * (vN A 1 0 + 1)
        rw [eal, sl_app]
        have : z_sl [(10, vN A 1 0)] = 4 := rfl
        omega
    · have e := rx_ACCS hX4
      exact congrArg (fun z : Int32 => (some (Sum.inl z) : Option z_V)) e
theorem lg_1 {y c : Int64} : (lg_cmp y c < 0) = (¬ c ≤ y) := by rw [lg_lt]; exact propext Int64.not_le.symm
theorem lg_2 {y c : Int64} : (0 < lg_cmp y c) = (¬ y ≤ c) := by rw [lg_gt]; exact propext Int64.not_le.symm
theorem lg_3 {y c : Int64} : (lg_cmp y c ≤ 0) = (y ≤ c) := by
  rw [← Int32.not_lt, lg_2]
  exact propext Classical.not_not
theorem mc_account {T σ : z_St} {A : w_A} (hM : w_M T σ A) {n : Nat} (hB : z_B n A) {d : Nat} {y b : Int64} {Q : z_St → Option z_V → Prop} (k : ∀ σ v, w_M T σ (fn_cAccount A y b).1 → v = some (.inl (fn_cAccount A y b).2) → Q σ v) : wp (zD (d + 2) 177 [.inr (.inr (some (8, 0))), .inr (.inl y), .inr (.inl b)] σ) Q := by
  have hb := hB.1
  unfold fn_cAccount at k
  refine wp_eq (c177 ..) (wp_eq (e177_0 ..) (wp_swM (wm_code hM _) fun σ hM => wp_if (fun h => ?_) (fun h1 => ?_)))
  · rw [lg_1] at h
    rw [if_pos (.inl (fun g => h g.1))] at k
    exact wp_eq (e177_4 ..) (wp_ret (k _ _ hM rfl))
  rw [lg_1] at h1
  refine wp_eq (e177_1 ..) (wp_if (fun h => ?_) (fun h2 => ?_))
  · rw [lg_2] at h
    rw [if_pos (.inl (fun g => h g.2))] at k
    exact wp_eq (e177_4 ..) (wp_ret (k _ _ hM rfl))
  rw [lg_2] at h2
  refine wp_eq (e177_2 ..) (wp_if (fun h => ?_) (fun h3 => ?_))
  · rw [lg_1] at h
    rw [if_pos (.inr (fun g => h g.1))] at k
    exact wp_eq (e177_4 ..) (wp_ret (k _ _ hM rfl))
  rw [lg_1] at h3
  refine wp_eq (e177_3 ..) (wp_if (fun h4 => ?_) (fun h => ?_))
  rotate_left
  · rw [lg_3] at h
    rw [if_pos (.inr (fun g => h g.2))] at k
    exact wp_eq (e177_4 ..) (wp_ret (k _ _ hM rfl))
  rw [lg_3] at h4
  rw [if_neg (fun g => g.elim (fun g => g ⟨Classical.not_not.mp h1, Classical.not_not.mp h2⟩) (fun g => g ⟨Classical.not_not.mp h3, h4⟩))] at k
  refine wp_eq (e177_5 ..) (wp_cr (mc_acct (d := d) hM hb.2.1 ⟨_, rfl, wp_asI0 ?_⟩))
  cases ha : fn_acct A y with
  | some a =>
    rw [ha, if_pos (show (some a).isSome = true from rfl)] at k
    have haa := acct_lt ha
    rw [show fn_ix (some a) = Int32.ofNat a from rfl]
    exact wp_if (fun q => absurd q (io_neg (by omega))) (fun _ => wp_eq (e177_6 ..) (wp_ret (k _ _ hM rfl)))
  | none =>
    rw [ha, if_neg (by decide)] at k
    refine wp_if (fun _ => ?_) (fun q => absurd (by decide) q)
    refine wp_eq (e177_7 ..) ?_
    rw [rm_ACCS hM]
    refine wp_if (fun h => ?_) (fun h => ?_) <;> rw [show (16 : Int32) = Int32.ofNat 16 from rfl, io_inj (by omega) (by omega)] at h
    · rw [if_pos h] at k
      exact wp_eq (e177_8 ..) (wp_ret (k _ _ hM rfl))
    rw [if_neg h] at k
    refine wp_eq (e177_9 ..) (wp_ar (k := vN A 1 0) (rm_p36 hM) aty_36700691 alen_36700691 (rm_ACCS hM) (by omega) (by decide) ?_)
    rw [rm_ACCS hM, io_nat (by omega)]
    refine wp_swM (wm_ANUM hM _ _) fun σ hM => ?_
    have ra := rm_ACCS hM
    have ra : gI σ 8 35 0 = Int32.ofNat (vN A 1 0) := ra
    refine (wp_ar (k := vN A 1 0) (rm_p37 hM) aty_37749267 alen_37749267 ra (by omega) (by decide) ?_)
    rw [ra, io_nat (by omega)]
    refine wp_swM (wm_ABAL hM _ _) fun σ hM => ?_
    have ra := rm_ACCS hM
    have ra : gI σ 8 35 0 = Int32.ofNat (vN A 1 0) := ra
    rw [ra, io_add_l]
    refine wp_swM (wm_ACCS hM _) fun σ hM => wp_ret (k _ _ hM ?_)
    rw [rm_ACCS hM]
    rfl
