/-! PART 89c (src 89c.mfeed.src): the twin feeds -/
set_option maxHeartbeats 800000
theorem wm_INB {T σ : z_St} {A : w_A} (h : w_M T σ A) (hP : vP A = none) (i : Nat) (x : Int32) : w_M T (wI σ 31630097 0 i x) (sI A 64 i x) := by
  obtain ⟨hT, hA, hB, hC, hD, hG, hH, hI, hJ, hK, hL, hM, hN⟩ := h
  refine ⟨m_T_wI hT (z_isM_yes _ rfl), hA, hB, hC, hD, hG, hH, fun k hk => ?_, hJ, hK, hL, fun P e => absurd (hP.symm.trans e) (by simp), hN⟩
  rw [gI_wI, vI_sI]
  by_cases e : k = i
  · rw [if_pos ⟨rfl, rfl, e⟩, if_pos ⟨rfl, e⟩]
  · rw [if_neg (fun q => e q.2.2), if_neg (fun q => e q.2)]
    exact hI k hk
theorem ml_octet {T σ : z_St} {A : w_A} (hM : w_M T σ A) (hP : vP A = none) {n c : Nat} (hW : z_W n A) (hn : n + 64 < 2147483648) (hc1 : 1 ≤ c) (hc : c ≤ 8) (h2 : vI A 12 c = 2) {j : Nat} (hj : j < 32) {v y2 y4 y6 y8 : Int64} {x10 : Int32} {dn : Nat} (hb : fn_byte y2 y4 y6 y8 j = ((v >>> (Int32.toInt64 (56 - 8 * Int32.ofNat (j % 8)) &&& 63)).toInt32.toInt8.toInt32)) {d : Nat} {Q : z_St → Option z_V → Prop} (k : ∀ σ, w_M T σ (fn_octet A c (fn_byte y2 y4 y6 y8 j)).1 → wp (E xP167 (zD (d + 11)) 26 [some (.inr (.inr (some (8, 0)))), some (.inl (Int32.ofNat c)), some (.inr (.inl y2)), none, some (.inr (.inl y4)), none, some (.inr (.inl y6)), none, some (.inr (.inl y8)), none, some (.inl x10), some (.inl (Int32.ofNat (dn + (fn_octet A c (fn_byte y2 y4 y6 y8 j)).2))), some (.inl (Int32.ofNat j)), none, none, none] [] σ) Q) :
    wp (E xP167 (zD (d + 11)) 15 [some (.inr (.inr (some (8, 0)))), some (.inl (Int32.ofNat c)), some (.inr (.inl y2)), none, some (.inr (.inl y4)), none, some (.inr (.inl y6)), none, some (.inr (.inl y8)), none, some (.inl x10), some (.inl (Int32.ofNat dn)), some (.inl (Int32.ofNat j)), none, none, none] [.inr (.inl v)] σ) Q := by
  have hc31 : c < 2147483648 := by omega
  have hl6 := (hW.1.1.1.2.2.2.1 c).2
  have hin := hW.2.2.2.2.2.2.1 c hc1 hc
  have hnb := byte_nb y2 y4 y6 y8 j
  generalize hx : fn_byte y2 y4 y6 y8 j = x at *
  generalize hm : vN A 14 c = m at *
  have hix : (600 : Int32) * Int32.ofNat c = Int32.ofNat (600 * c) := io_mul 600 c
  refine wp_eq (e167_15 ..) (wp_ar (rm_p30 hM) aty_32506160 alen_32506160 rfl (by omega) (by decide) ?_)
  simp only [io_nat hc31]
  rw [rm_INL hM, hm, hix, io_add]
  refine (wp_ar (k := 600 * c + m) (rm_p29 hM) aty_31630097 alen_31630097 rfl (by omega) (by decide) ?_)
  rw [io_nat (by omega), io_mod_l (by omega) (by decide), Int8.toInt8_toInt32]
  show wp (sw (wI σ 31630097 0 (600 * c + m) (Int8.toInt32 (Int32.toInt8 (Int64.toInt32 (v >>> (Int32.toInt64 (56 - 8 * Int32.ofNat (j % 8)) &&& 63)))))) _) Q
  rw [← hb]
  refine wp_swM (wm_INB hM hP (600 * c + m) x) fun σ hM => (wp_ar (rm_p30 hM) aty_32506160 alen_32506160 rfl (by omega) (by decide) (wp_ar (rm_p30 hM) aty_32506160 alen_32506160 rfl (by omega) (by decide) ?_))
  simp only [io_nat hc31]
  rw [rm_INL hM, show vN (sI A 64 (600 * c + m) x) 14 c = m from hm, io_add_l]
  refine wp_swM (wm_INL hM c (m + 1)) fun σ hM => ?_
  have hM := mw8_67 hM (show vP (sN (sI A 64 (600 * c + m) x) 14 c (m + 1)) = none from hP) (Int32.ofNat (600 * c))
  refine wp_sw ?_
  have h67 : gI (wI σ 8 67 0 (Int32.ofNat (600 * c))) 8 67 0 = Int32.ofNat (600 * c) := rfl
  generalize wI σ 8 67 0 (Int32.ofNat (600 * c)) = σ at *
  refine (wp_ar (rm_p30 hM) aty_32506160 alen_32506160 rfl (by omega) (by decide) ?_)
  have hW0 := W_base hW hc1 hc hnb (y := 0) (by decide) (fun g => by omega)
  rw [hm] at hW0
  unfold fn_octet at k
  rw [hm] at k
  dsimp only at k
  have e5 : gI σ 32506160 0 c = Int32.ofNat (m + 1) := by rw [rm_INL hM c, vN_sN, if_pos ⟨rfl, rfl⟩]
  have hself : sN (sN (sI A 64 (600 * c + m) x) 14 c (m + 1)) 14 c 0 = sN (sI A 64 (600 * c + m) x) 14 c 0 := sN_sN _ _ _ _ _
  have hScB : z_Sc (sN (sI A 64 (600 * c + m) x) 14 c (m + 1)) c := W_Sc hW hc1 hc
  rw [hself] at k
  generalize hB : sN (sI A 64 (600 * c + m) x) 14 c (m + 1) = B at *
  generalize hD : sN (sI A 64 (600 * c + m) x) 14 c 0 = D at *
  have hDB : sN B 14 c 0 = D := hself
  have hBI : m + 1 < 600 → z_I n B := fun h600 => by
    have : sN D 14 c (m + 1) = B := by rw [← hD, ← hB]; exact sN_sN _ _ _ _ _
    rw [← this]
    exact ⟨(Ip_INL (I_p hW0.1.1 0) c h600).1, hW0.1.1.2⟩
  have heq3 : 4 ≤ m → n3 (vI B 64) c 1 = n3 (vI A 64) c 1 := fun h4 => by
    have e : ∀ k, ¬ k = 600 * c + m → vI B 64 k = vI A 64 k := fun k hk => by
      rw [← hB]
      show vI (sI A 64 (600 * c + m) x) 64 k = _
      rw [vI_sI, if_neg (fun g => hk g.2)]
    unfold n3 u8
    rw [e _ (by omega), e _ (by omega), e _ (by omega)]
  have hPB : vP B = none := by rw [← hB]; exact hP
  have hPD : vP D = none := by rw [← hD]; exact hP
  have eIN : vI D 64 = vI B 64 := by rw [← hDB]; rfl
  have hg3 := gv3_lt (vI B 64) c 1
  have hn3 := n3_io (vI B 64) c 1
  dsimp only
  rw [e5]
  refine wp_if (fun h => ?_) (fun h => ?_) <;> rw [io_lle (by omega) (by decide)] at h
  rotate_left
  · have h : ¬ 4 ≤ m + 1 := h
    rw [if_pos (show m + 1 < 4 by omega)] at k
    refine wp_eq (e167_16 ..) (wp_eq (e167_18 ..) (wp_ar (rm_p30 hM) aty_32506160 alen_32506160 rfl (by omega) (by decide) ?_))
    refine wp_if (fun g => ?_) (fun _ => ?_)
    · dsimp only at g
      rw [io_nat hc31, e5, io_eq_l (by omega) (by decide)] at g
      have g : m + 1 = 4 := g
      omega
    refine wp_eq (e167_23 ..) (wp_ar (rm_p30 hM) aty_32506160 alen_32506160 rfl (by omega) (by decide) ?_)
    refine wp_if (fun _ => k σ hM) (fun g => ?_)
    dsimp only at g
    rw [io_nat hc31, e5, io_lt_l (by omega) (by decide)] at g
    exact absurd (show m + 1 < 4 by omega) g
  have h : 4 ≤ m + 1 := h
  rw [if_neg (show ¬ m + 1 < 4 by omega)] at k
  refine wp_eq (e167_17 ..) (wp_cr (mw_n3 (d := d + 9) (k := 1) hM h67 hc (by decide) rfl ⟨_, rfl, ?_⟩))
  have k23 : ¬ (n3 (vI B 64) c 1 < 20 ∨ 600 < n3 (vI B 64) c 1 ∨ (n3 (vI B 64) c 1).toNatClampNeg % 4 ≠ 0) → wp (E xP167 (zD (d + 11)) 23 [some (.inr (.inr (some (8, 0)))), some (.inl (Int32.ofNat c)), some (.inr (.inl y2)), none, some (.inr (.inl y4)), none, some (.inr (.inl y6)), none, some (.inr (.inl y8)), none, some (.inl x10), some (.inl (Int32.ofNat dn)), some (.inl (Int32.ofNat j)), none, none, some (.inl (n3 (vI B 64) c 1))] [] σ) Q := by
    intro hok
    rw [if_neg hok] at k
    rw [hn3] at hok
    have w20 : 20 ≤ gv (vI B 64) c 1 3 := by
      refine Nat.le_of_not_lt fun g => hok (.inl ?_)
      rw [io_lt_l (by omega) (by decide)]; exact g
    have w600 : gv (vI B 64) c 1 3 ≤ 600 := by
      refine Nat.le_of_not_lt fun g => hok (.inr (.inl ?_))
      rw [io_llt (by omega) (by decide)]; exact g
    refine wp_eq (e167_23 ..) (wp_ar (rm_p30 hM) aty_32506160 alen_32506160 rfl (by omega) (by decide) ?_)
    refine wp_if (fun g => ?_) (fun _ => ?_)
    · dsimp only at g
      rw [io_nat hc31, e5, io_lt_l (by omega) (by decide)] at g
      have g : m + 1 < 4 := g
      omega
    refine wp_eq (e167_24 ..) (wp_ar (rm_p30 hM) aty_32506160 alen_32506160 rfl (by omega) (by decide) ?_)
    dsimp only
    rw [io_nat hc31, e5]
    refine wp_if (fun he => ?_) (fun he => ?_)
    rotate_left
    · rw [if_neg (fun g => he g.symm)] at k
      exact k σ hM
    rw [if_pos he.symm] at k
    have hm1 : m + 1 = gv (vI B 64) c 1 3 := by
      rw [hn3, io_inj (by omega) (by omega)] at he
      exact he
    refine wp_eq (e167_25 ..) (wp_ar (rm_p30 hM) aty_32506160 alen_32506160 rfl (by omega) (by decide) ?_)
    simp only [io_nat hc31]
    refine wp_swM (wm_INL0 hM c) fun σ hM => ?_
    rw [hDB] at hM
    rw [io_add_l]
    exact wp_cv (mc_hear (d := d) (m := m + 1) hM hPD hW0 hn hc1 hc (by rw [← hD]; exact h2) (by omega) (by omega) (by rw [eIN, he]) fun σ hM => ⟨rfl, k σ (wm_P0 hM)⟩)
  refine wp_eq (e167_18 ..) (wp_ar (rm_p30 hM) aty_32506160 alen_32506160 rfl (by omega) (by decide) ?_)
  refine wp_if (fun h4 => ?_) (fun h4 => ?_) <;> (dsimp only at h4; rw [io_nat hc31, e5, io_eq_l (by omega) (by decide)] at h4)
  rotate_left
  · have h4 : ¬ m + 1 = 4 := h4
    refine k23 (fun hbad => ?_)
    obtain ⟨m', e1, e2, e3, e4, e6⟩ := hin (by omega)
    rw [heq3 (by omega), e1, io_nat (by omega), io_lt_l (by omega) (by decide), io_llt (by omega) (by decide)] at hbad
    rcases hbad with q | q | q
    · have q : m' < 20 := q
      omega
    · have q : 600 < m' := q
      omega
    · exact q e4
  have h4 : m + 1 = 4 := h4
  have bad : (n3 (vI B 64) c 1 < 20 ∨ 600 < n3 (vI B 64) c 1 ∨ (n3 (vI B 64) c 1).toNatClampNeg % 4 ≠ 0) → wp (E xP167 (zD (d + 11)) 22 [some (.inr (.inr (some (8, 0)))), some (.inl (Int32.ofNat c)), some (.inr (.inl y2)), none, some (.inr (.inl y4)), none, some (.inr (.inl y6)), none, some (.inr (.inl y8)), none, some (.inl x10), some (.inl (Int32.ofNat dn)), some (.inl (Int32.ofNat j)), none, none, none] [] σ) Q := by
    intro hbad
    rw [if_pos hbad] at k
    exact wp_eq (e167_22 ..) (wp_cv (mc_drop (d := d + 2) hM (by omega) hc (hBI (by omega)) hScB hn fun σ hM => ⟨rfl, k σ hM⟩))
  refine wp_eq (e167_19 ..) (wp_if (fun h20 => bad (.inl h20)) (fun h20 => ?_))
  refine wp_eq (e167_20 ..) (wp_if (fun h6 => bad (.inr (.inl h6))) (fun h6 => ?_))
  refine wp_eq (e167_21 ..) ?_
  have e4 : (n3 (vI B 64) c 1 - n3 (vI B 64) c 1 / 4 * 4 = 0) = ((n3 (vI B 64) c 1).toNatClampNeg % 4 = 0) := by
    rw [hn3, io_mod_l (by omega) (by decide), io_nat (by omega), io_eq_l (by omega) (by decide)]
  refine wp_if (fun g4 => ?_) (fun g4 => ?_) <;> rw [e4] at g4
  · exact k23 (fun g => g.elim h20 (fun g => g.elim h6 (fun g => g g4)))
  · exact bad (.inr (.inr g4))
theorem ml_feed {T : z_St} {c : Nat} (hc1 : 1 ≤ c) (hc : c ≤ 8) {y2 y4 y6 y8 : Int64} {N : Nat} (hN : N ≤ 32) {d : Nat} {Q : z_St → Option z_V → Prop} : ∀ (f n : Nat) (A : w_A) (σ : z_St) (dn : Nat), f ≤ N → w_M T σ A → vP A = none → z_W n A → n + 64 * f < 2147483648 → (∀ σ, w_M T σ (fn_feed c (fn_byte y2 y4 y6 y8) N f A dn).1 → Q σ (some (.inl (Int32.ofNat (fn_feed c (fn_byte y2 y4 y6 y8) N f A dn).2)))) →
    wp (E xP167 (zD (d + 11)) 6 [some (.inr (.inr (some (8, 0)))), some (.inl (Int32.ofNat c)), some (.inr (.inl y2)), none, some (.inr (.inl y4)), none, some (.inr (.inl y6)), none, some (.inr (.inl y8)), none, some (.inl (Int32.ofNat N)), some (.inl (Int32.ofNat dn)), some (.inl (Int32.ofNat (N - f))), none, none, none] [] σ) Q
  | 0, n, A, σ, dn, hf, hM, hP, hW, hn, k => by
    refine wp_eq (e167_6 ..) (wp_if (fun h => ?_) (fun h => ?_)) <;> rw [io_le (by omega) (by omega)] at h
    · exact wp_eq (e167_27 ..) (wp_ret (k σ hM))
    · omega
  | f + 1, n, A, σ, dn, hf, hM, hP, hW, hn, k => by
    have hc31 : c < 2147483648 := by omega
    rw [feed_s] at k
    refine wp_eq (e167_6 ..) (wp_if (fun h => ?_) (fun h => ?_)) <;> rw [io_le (by omega) (by omega)] at h
    · omega
    refine wp_eq (e167_7 ..) (wp_ar (rm_p26 hM) aty_28311856 alen_28311856 rfl (by omega) (by decide) ?_)
    refine wp_if (fun h2 => ?_) (fun h2 => ?_) <;> (dsimp only at h2; rw [io_nat hc31, rm_CST hM] at h2)
    rotate_left
    · rw [if_neg h2] at k
      exact wp_eq (e167_27 ..) (wp_ret (k σ hM))
    rw [if_pos h2] at k
    generalize hj : N - (f + 1) = j at *
    have hj32 : j < 32 := by omega
    have hW2 := W_octet hW (by omega) hc1 hc h2 (byte_nb y2 y4 y6 y8 j)
    have hP2 := octet_P A c (fn_byte y2 y4 y6 y8 j) hP
    have go : ∀ σ, w_M T σ (fn_octet A c (fn_byte y2 y4 y6 y8 j)).1 → wp (E xP167 (zD (d + 11)) 26 [some (.inr (.inr (some (8, 0)))), some (.inl (Int32.ofNat c)), some (.inr (.inl y2)), none, some (.inr (.inl y4)), none, some (.inr (.inl y6)), none, some (.inr (.inl y8)), none, some (.inl (Int32.ofNat N)), some (.inl (Int32.ofNat (dn + (fn_octet A c (fn_byte y2 y4 y6 y8 j)).2))), some (.inl (Int32.ofNat j)), none, none, none] [] σ) Q := by
      intro σ hM
      refine wp_eq (e167_26 ..) ?_
      rw [io_add_l, show j + 1 = N - f by omega]
      exact ml_feed hc1 hc hN f (n + 64) _ σ _ (by omega) hM hP2 hW2 (by omega) k
    have b8 : (8 ≤ Int32.ofNat j) = (8 ≤ j) := io_lle (by omega) (by decide)
    have b16 : (16 ≤ Int32.ofNat j) = (16 ≤ j) := io_lle (by omega) (by decide)
    have b24 : (24 ≤ Int32.ofNat j) = (24 ≤ j) := io_lle (by omega) (by decide)
    refine wp_eq (e167_8 ..) (wp_if (fun h => ?_) (fun h => ?_)) <;> rw [b8] at h
    · refine wp_eq (e167_10 ..) (wp_if (fun h => ?_) (fun h => ?_)) <;> rw [b16] at h
      · refine wp_eq (e167_12 ..) (wp_if (fun h => ?_) (fun h => ?_)) <;> rw [b24] at h
        · refine wp_eq (e167_14 ..) (ml_octet hM hP hW (by omega) hc1 hc h2 hj32 (v := y8) ?_ go)
          unfold fn_byte
          rw [if_neg (by omega), if_neg (by omega), if_neg (by omega)]
        · refine wp_eq (e167_13 ..) (ml_octet hM hP hW (by omega) hc1 hc h2 hj32 (v := y6) ?_ go)
          unfold fn_byte
          rw [if_neg (by omega), if_neg (by omega), if_pos (by omega)]
      · refine wp_eq (e167_11 ..) (ml_octet hM hP hW (by omega) hc1 hc h2 hj32 (v := y4) ?_ go)
        unfold fn_byte
        rw [if_neg (by omega), if_pos (by omega)]
    · refine wp_eq (e167_9 ..) (ml_octet hM hP hW (by omega) hc1 hc h2 hj32 (v := y2) ?_ go)
      unfold fn_byte
      rw [if_pos (by omega)]
theorem mc_feed {T σ : z_St} {A : w_A} (hM : w_M T σ A) (hP : vP A = none) {n : Nat} (hW : z_W n A) (hn : n + 2048 < 2147483648) {x N : Int32} {y2 y4 y6 y8 : Int64} {d : Nat} {Q : z_St → Option z_V → Prop} (k : ∀ σ v, w_M T σ (fn_cFeed A x y2 y4 y6 y8 N).1 → v = some (.inl (fn_cFeed A x y2 y4 y6 y8 N).2) → Q σ v) : wp (zD (d + 12) 167 [.inr (.inr (some (8, 0))), .inl x, .inr (.inl y2), .inr (.inl y4), .inr (.inl y6), .inr (.inl y8), .inl N] σ) Q := by
  unfold fn_cFeed at k
  refine wp_eq (c167 ..) (wp_eq (e167_0 ..) (wp_swM (wm_code hM _) fun σ hM => wp_cr (mc_in (d := d + 10) fun v hv => ⟨_, hv, wp_asI0 ?_⟩)))
  cases hp : fn_pk 8 x with
  | none =>
    rw [hp] at k
    rw [if_pos (by rw [b2i_0]; exact pk_none hp)]
    exact wp_eq (e167_2 ..) (wp_ret (k _ _ hM rfl))
  | some c =>
    rw [if_neg (by rw [b2i_0]; exact fun h => h (pk_is.mp (by rw [hp]; rfl)))]
    obtain ⟨hc8, rfl⟩ := pk_some (by omega) hp
    rw [hp] at k
    dsimp only at k
    have hc31 : c + 1 < 2147483648 := by omega
    refine wp_eq (e167_1 ..) (wp_ar (rm_p26 hM) aty_28311856 alen_28311856 rfl (by omega) (by decide) ?_)
    refine wp_if (fun hc => ?_) (fun hc => ?_) <;> (dsimp only at hc; rw [io_nat hc31, rm_CST hM] at hc)
    rotate_left
    · rw [if_neg hc] at k
      exact wp_eq (e167_2 ..) (wp_ret (k _ _ hM rfl))
    rw [if_pos hc] at k
    refine wp_eq (e167_3 ..) (wp_cr (mc_in (d := d + 10) fun v hv => ⟨_, hv, wp_asI0 ?_⟩))
    refine wp_if (fun q => ?_) (fun q => ?_) <;> rw [b2i_0] at q
    · rw [if_neg q] at k
      exact wp_eq (e167_4 ..) (wp_ret (k _ _ hM rfl))
    have q := Classical.not_not.mp q
    rw [if_pos q] at k
    obtain ⟨L, hL, rfl, hL2⟩ := io_of q
    rw [hL2] at k
    refine wp_eq (e167_5 ..) ?_
    have := ml_feed (T := T) (c := c + 1) (by omega) (by omega) (y2 := y2) (y4 := y4) (y6 := y6) (y8 := y8) (N := L) hL (d := d) (Q := Q) L n A σ 0 (Nat.le_refl _) hM hP hW (by omega) (fun σ hM => k σ _ hM rfl)
    rw [Nat.sub_self] at this
    exact this
