/-! PART 87f (src 87f.mlook.src): the twin's message is fn_read -/
set_option maxHeartbeats 800000
theorem mk_M {T σ : z_St} {A : w_A} (hM : w_M T σ A) {c n : Nat} {fl cmd app h e w x : Int32} {l : List w_Q} (h67 : gI σ 8 67 0 = Int32.ofNat (600 * c)) (h69 : gI σ 8 69 0 = fl) (h70 : gI σ 8 70 0 = cmd) (h71 : gI σ 8 71 0 = app) (h72 : gI σ 8 72 0 = h) (h73 : gI σ 8 73 0 = e) (h74 : gI σ 8 74 0 = w) (h75 : ¬ fl &&& 128 = 0 → gI σ 8 75 0 = x) (hk : ∀ k, k < 12 → (w = 0 ∨ k < 9) → z_kf σ l k) (hg : w = 0 → z_tw (vI A 64) σ c (z_slo (vI A 64) c l)) : w_M T σ (sP A (some (c, n, fl, cmd, app, h, e, w, x, l))) := by
  obtain ⟨hT, hA, hB, hC, hD, hG, hH, hI, hJ, hK, hL, hM, hN⟩ := hM
  refine ⟨hT, hA, hB, hC, hD, hG, hH, hI, hJ, hK, hL, fun P e => ?_, hN⟩
  cases e
  refine ⟨h67, h69, h70, h71, h72, h73, h74, h75, hk, fun q => ?_⟩
  obtain ⟨-, g2, g3, g4, g5, g6⟩ := hg q
  exact ⟨g2, g3, g4, g5, g6⟩
theorem mw_isReq {d : Nat} {σ : z_St} {f : Int32} (hf : gI σ 8 69 0 = f) {Q : z_St → Option z_V → Prop} (k : Q σ (some (.inl (b2i (¬ f &&& 128 = 0))))) : wp (zD (d + 1) 115 [.inr (.inr (some (8, 0)))] σ) Q := by
  refine wp_eq (c115 ..) (wp_eq (e115_0 ..) (wp_if (fun hc => ?_) (fun hc => ?_))) <;> rw [hf] at hc
  · rw [b2i_f (fun h => h hc)] at k
    exact wp_eq (e115_2 ..) (wp_eq (e115_3 ..) (wp_gd (.inl rfl) (wp_ret k)))
  · rw [b2i_t hc] at k
    exact wp_eq (e115_1 ..) (wp_eq (e115_3 ..) (wp_gd (.inr rfl) (wp_ret k)))
/-- a message's head in the twin's fields -/
def z_hf (r : Nat → Int32) (σ : z_St) (c n : Nat) : Prop := gI σ 8 67 0 = Int32.ofNat (600 * c) ∧ gI σ 8 68 0 = Int32.ofNat n ∧ gI σ 8 69 0 = u8 r c 4 ∧ gI σ 8 70 0 = n3 r c 5 ∧ gI σ 8 71 0 = n4 r c 8 ∧ gI σ 8 72 0 = n4 r c 12 ∧ gI σ 8 73 0 = n4 r c 16
theorem hf_hs {r : Nat → Int32} {σ σ' : z_St} {c n : Nat} (h : z_hf r σ c n) (hh : z_hs σ σ') : z_hf r σ' c n := by
  obtain ⟨h1, h2, h3, h4, h5, h6, h7⟩ := h
  exact ⟨(hh 67 (by decide) (by decide)).trans h1, (hh 68 (by decide) (by decide)).trans h2, (hh 69 (by decide) (by decide)).trans h3, (hh 70 (by decide) (by decide)).trans h4, (hh 71 (by decide) (by decide)).trans h5, (hh 72 (by decide) (by decide)).trans h6, (hh 73 (by decide) (by decide)).trans h7⟩
theorem mw_att {T σ : z_St} {A : w_A} (hM : w_M T σ A) (hP : vP A = none) {c n : Nat} (hc : c ≤ 8) (hn : n ≤ 600) (hf : z_hf (vI A 64) σ c n) (hw : gI σ 8 74 0 = 0) (hs : z_tw (vI A 64) σ c (z_slo (vI A 64) c [])) {d : Nat} {Q : z_St → Option z_V → Prop}
    (k0 : ∀ σ', (fn_walk (vI A 64) c 601 20 n 0 []).1.1 = 0 → w_M T σ' A → z_hs σ σ' → gI σ' 8 74 0 = 0 → gI σ' 8 75 0 = gI σ 8 75 0 → z_tw (vI A 64) σ' c (z_slo (vI A 64) c (fn_walk (vI A 64) c 601 20 n 0 []).2) → Q σ' none)
    (k1 : ∀ σ', ¬ (fn_walk (vI A 64) c 601 20 n 0 []).1.1 = 0 → w_M T σ' A → z_hs σ σ' → gI σ' 8 74 0 = (fn_walk (vI A 64) c 601 20 n 0 []).1.1 → gI σ' 8 75 0 = (fn_walk (vI A 64) c 601 20 n 0 []).1.2 → (∀ k, k < 9 → z_kf σ' (fn_walk (vI A 64) c 601 20 n 0 []).2 k) → Q σ' none) : wp (zD (d + 4) 114 [.inr (.inr (some (8, 0)))] σ) Q := by
  obtain ⟨ht1, ht2, ht3⟩ := tw_top (vI A 64) c 601 20 n 0 [] (by decide) (by omega)
  refine wp_eq (c114 ..) (wp_eq (e114_0 ..) (wp_ar (k := 0) (rm_p85 hM) aty_69206192 alen_69206192 rfl (by decide) (by decide) ?_))
  dsimp only
  simp only [show (0 : Int32).toNatClampNeg = 0 from by decide, hf.2.1]
  have hM1 := mwA_69206192 hM hP 0 (Int32.ofNat n)
  refine wp_sw ?_
  refine ml_att hc hP (d := d) 601 20 n 0 0 (z_slo (vI A 64) c []) _ Q (by omega) hn (by decide) (by decide) (Nat.le_refl 20) ?_ hM1 hf.1 hw ⟨fun k hk => hs.1 k hk, hs.2⟩ rfl (fun h => absurd h (by decide)) ?_ ?_
  · intro q h
    rcases h with h | h | h <;> cases h
  · intro σ' k' h1 h2 h3 h4 h5 h6
    have hw' : gI σ' 8 74 0 = 0 := (h5.1 74 (by decide) (by decide)).trans hw
    have hE : gI σ' 69206192 0 0 = Int32.ofNat n := (h5.2 _ (.inl rfl) 0 (Nat.le_refl _)).trans rfl
    rw [ht1] at h1
    rw [ht2 h1] at h6
    refine wp_eq (e114_1 ..) (wp_if (fun _ => ?_) (fun q => absurd hw' q))
    refine wp_eq (e114_2 ..) (wp_if (fun q => absurd q (by decide)) (fun _ => ?_))
    refine wp_eq (e114_3 ..) (wp_ar (k := 0) (rm_p85 h4) aty_69206192 alen_69206192 rfl (by decide) (by decide) ?_)
    dsimp only
    rw [show (0 : Int32).toNatClampNeg = 0 from by decide, hE]
    refine wp_if (fun _ => wp_eq (e114_31 ..) (wp_ret (k0 σ' h1 h4 (fun n a b => h5.1 n a (by omega)) hw' (h5.1 75 (by decide) (by decide)) h6))) (fun q => ?_)
    rw [io_le (by omega) (by omega)] at q
    omega
  · intro σ' h1 h2 h3 h4 h5 h6
    rw [ht1] at h1 h4 h5
    refine k1 σ' h1 h2 (fun n a b => h3 n a b) h4 h5 (fun k hk => ?_)
    have hk6 := h6.1 k (by omega)
    rcases ht3 with e | ⟨q, hq, e⟩
    · rw [e] at hk6
      exact hk6
    · rw [e] at hk6
      have hne : ¬ q.1 = z_keys.getD k 0 := by
        intro h
        rw [h] at hq
        match k, hk, hq with
        | 0, _, hq => exact absurd hq (by decide)
        | 1, _, hq => exact absurd hq (by decide)
        | 2, _, hq => exact absurd hq (by decide)
        | 3, _, hq => exact absurd hq (by decide)
        | 4, _, hq => exact absurd hq (by decide)
        | 5, _, hq => exact absurd hq (by decide)
        | 6, _, hq => exact absurd hq (by decide)
        | 7, _, hq => exact absurd hq (by decide)
        | 8, _, hq => exact absurd hq (by decide)
      unfold z_kf at hk6 ⊢
      rw [many_app, find_app, if_neg hne] at hk6
      refine ⟨hk6.1, fun y hy => hk6.2 y ?_⟩
      rw [hy]
theorem ml_clr {T σ0 : z_St} {A : w_A} (hP : vP A = none) {d : Nat} {Q : z_St → Option z_V → Prop} (k : ∀ σ, w_M T σ A → (∀ k, k < 12 → z_kf σ [] k) → z_f3 σ0 σ → wp (E xP117 (zD d) 3 [some (.inr (.inr (some (8, 0)))), none, none] [] σ) Q) : ∀ (m i : Nat) (σ : z_St), i + m = 12 → w_M T σ A → (∀ k, k < i → z_kf σ [] k) → z_f3 σ0 σ → wp (E xP117 (zD d) 1 [some (.inr (.inr (some (8, 0)))), none, some (.inl (Int32.ofNat i))] [] σ) Q
  | 0, i, σ, hi, hM, h1, hf => by
    refine wp_eq (e117_1 ..) (wp_if (fun h => ?_) (fun h => ?_)) <;> rw [io_lle (by omega) (by decide)] at h
    · exact k σ hM (fun k hk => h1 k (by omega)) hf
    · omega
  | m + 1, i, σ, hi, hM, h1, hf => by
    have hi31 : i < 2147483648 := by omega
    refine wp_eq (e117_1 ..) (wp_if (fun h => ?_) (fun h => ?_)) <;> rw [io_lle (by omega) (by decide)] at h
    · omega
    refine wp_eq (e117_2 ..) (wp_ar (rm_p79 hM) aty_68157840 alen_68157840 rfl (by omega) (by decide) ?_)
    simp only [io_nat hi31]
    have hM1 := mwA_68157840 hM hP i 0
    refine wp_sw (wp_ar (k := i) (rm_p77 hM1) aty_66060688 alen_66060688 rfl (by omega) (by decide) ?_)
    have hM2 := mwA_66060688 hM1 hP i 0
    refine wp_sw ?_
    rw [io_add_l]
    refine ml_clr hP k m (i + 1) _ (by omega) hM2 ?_ ?_
    · intro k hk
      refine ⟨?_, fun q hq => by cases hq⟩
      dsimp only
      rw [gI_wI, if_neg (fun q => absurd q.1 (by decide)), gI_wI]
      by_cases e : k = i
      · rw [if_pos ⟨rfl, rfl, e⟩]; rfl
      · rw [if_neg (fun q => e q.2.2)]
        exact (h1 k (by omega)).1
    · intro a b n ha
      dsimp only
      rw [gI_wI, if_neg (fun q => ha (.inl q.1)), gI_wI, if_neg (fun q => ha (.inr (.inr q.1)))]
      exact hf a b n ha
theorem or_zero {x y : Int32} : x ||| y = 0 ↔ x = 0 ∧ y = 0 := by
  refine ⟨fun h => ?_, fun h => by rw [h.1, h.2]; rfl⟩
  have h2 := congrArg (fun z => z.toBitVec.toNat) h
  rw [Int32.toBitVec_or, BitVec.toNat_or, show (0 : Int32).toBitVec.toNat = 0 from rfl] at h2
  have := Nat.or_eq_zero_iff.mp h2
  exact ⟨Int32.toBitVec_inj.mp (BitVec.eq_of_toNat_eq this.1), Int32.toBitVec_inj.mp (BitVec.eq_of_toNat_eq this.2)⟩
theorem and_47 (x : Int32) : x &&& 47 = 0 ↔ x &&& 15 = 0 ∧ x &&& 32 = 0 := by
  have e : x &&& 47 = x &&& 15 ||| x &&& 32 := by
    apply Int32.toBitVec_inj.mp
    rw [Int32.toBitVec_or, Int32.toBitVec_and, Int32.toBitVec_and, Int32.toBitVec_and]
    apply BitVec.eq_of_getLsbD_eq
    intro i hi
    rw [BitVec.getLsbD_and, BitVec.getLsbD_or, BitVec.getLsbD_and, BitVec.getLsbD_and, show (47 : Int32).toBitVec = (15 : Int32).toBitVec ||| (32 : Int32).toBitVec from by decide, BitVec.getLsbD_or, Bool.and_or_distrib_left]
  rw [e, or_zero]
theorem mw_look {T σ : z_St} {A : w_A} (hM : w_M T σ A) (hP : vP A = none) {c n : Nat} (hc : c ≤ 8) (h20 : 20 ≤ n) (hn : n ≤ 600) (hnl : n3 (vI A 64) c 1 = Int32.ofNat n) {d : Nat} {x : Int32} (hx : x = Int32.ofNat c) {Q : z_St → Option z_V → Prop} (k : ∀ σ, w_M T σ (sP A (some (fn_read (vI A 64) c n))) → Q σ none) : wp (zD (d + 5) 117 [.inr (.inr (some (8, 0))), .inl x] σ) Q := by
  subst hx
  refine wp_eq (c117 ..) (wp_eq (e117_0 ..) ?_)
  rw [show (600 : Int32) * Int32.ofNat c = Int32.ofNat (600 * c) from io_mul 600 c]
  have hM := mw8_67 hM hP (Int32.ofNat (600 * c))
  refine wp_sw (wp_cr (mw_n3 (d := d + 2) (c := c) (k := 1) hM rfl hc (by decide) rfl ⟨_, rfl, wp_asI0 ?_⟩))
  rw [hnl]
  have hM := mw8_68 hM hP (Int32.ofNat n)
  refine wp_sw (wp_cr (mw_oct (d := d + 3) (c := c) (k := 4) hM rfl hc (by decide) rfl ⟨_, rfl, wp_asI0 ?_⟩))
  have hM := mw8_69 hM hP (u8 (vI A 64) c 4)
  refine wp_sw (wp_cr (mw_n3 (d := d + 2) (c := c) (k := 5) hM rfl hc (by decide) rfl ⟨_, rfl, wp_asI0 ?_⟩))
  have hM := mw8_70 hM hP (n3 (vI A 64) c 5)
  refine wp_sw (wp_cr (mw_n4 (d := d + 2) (c := c) (k := 8) hM rfl hc (by decide) rfl ⟨_, rfl, wp_asI0 ?_⟩))
  have hM := mw8_71 hM hP (n4 (vI A 64) c 8)
  refine wp_sw (wp_cr (mw_n4 (d := d + 2) (c := c) (k := 12) hM rfl hc (by decide) rfl ⟨_, rfl, wp_asI0 ?_⟩))
  have hM := mw8_72 hM hP (n4 (vI A 64) c 12)
  refine wp_sw (wp_cr (mw_n4 (d := d + 2) (c := c) (k := 16) hM rfl hc (by decide) rfl ⟨_, rfl, wp_asI0 ?_⟩))
  have hM := mw8_75 (mw8_74 (mw8_73 hM hP (n4 (vI A 64) c 16)) hP 0) hP 0
  refine wp_sw (wp_sw (wp_sw (ml_clr hP ?_ 12 0 _ rfl hM (fun k hk => absurd hk (by omega)) (fun _ _ _ _ => rfl))))
  intro σ1 hM1 hk1 hf1
  have g1 : z_hf (vI A 64) σ1 c n := ⟨hf1 8 67 0 (by decide), hf1 8 68 0 (by decide), hf1 8 69 0 (by decide), hf1 8 70 0 (by decide), hf1 8 71 0 (by decide), hf1 8 72 0 (by decide), hf1 8 73 0 (by decide)⟩
  have g74 : gI σ1 8 74 0 = 0 := hf1 8 74 0 (by decide)
  have g75 : gI σ1 8 75 0 = 0 := hf1 8 75 0 (by decide)
  have hM2 := mw8_84 (mw8_83 (mw8_81 (mw8_80 hM1 hP 0) hP 0) hP 0) hP 0
  refine wp_eq (e117_3 ..) (wp_sw (wp_sw (wp_sw (wp_sw ?_))))
  have g2 : z_hf (vI A 64) (wI (wI (wI (wI σ1 8 80 0 0) 8 81 0 0) 8 83 0 0) 8 84 0 0) c n := g1
  have g274 : gI (wI (wI (wI (wI σ1 8 80 0 0) 8 81 0 0) 8 83 0 0) 8 84 0 0) 8 74 0 = 0 := g74
  have g275 : gI (wI (wI (wI (wI σ1 8 80 0 0) 8 81 0 0) 8 83 0 0) 8 84 0 0) 8 75 0 = 0 := g75
  have hs2 : z_tw (vI A 64) (wI (wI (wI (wI σ1 8 80 0 0) 8 81 0 0) 8 83 0 0) 8 84 0 0) c (z_slo (vI A 64) c []) := ⟨hk1, rfl, rfl, (fun q hq => by cases hq), rfl, rfl⟩
  generalize wI (wI (wI (wI σ1 8 80 0 0) 8 81 0 0) 8 83 0 0) 8 84 0 0 = σ2 at *
  clear hk1 hf1 g1 g74 g75 hM1 σ1
  obtain ⟨j67, j68, j69, j70, j71, j72, j73⟩ := g2
  have j67' := j67
  have early : ∀ (w : Int32), ¬ w = 0 → fn_read (vI A 64) c n = (c, n, u8 (vI A 64) c 4, n3 (vI A 64) c 5, n4 (vI A 64) c 8, n4 (vI A 64) c 12, n4 (vI A 64) c 16, w, 0, []) → Q (wI σ2 8 74 0 w) none := by
    intro w hw hR
    have := k (wI σ2 8 74 0 w)
    rw [hR] at this
    exact this (mk_M (mw8_74 hM2 hP w) j67 j69 j70 j71 j72 j73 rfl (fun _ => g275) (fun k hk _ => hs2.1 k hk) (fun q => absurd q hw))
  have hR : fn_read (vI A 64) c n = fn_read (vI A 64) c n := rfl
  conv at hR => rhs; unfold fn_read
  dsimp only at hR
  refine wp_cr (mw_oct (d := d + 3) (c := c) (k := 0) hM2 j67 hc (by decide) rfl ⟨_, rfl, wp_asI0 ?_⟩)
  refine wp_if (fun hv => ?_) (fun hv => ?_)
  rotate_left
  · rw [if_pos hv] at hR
    exact wp_eq (e117_4 ..) (wp_sw (wp_ret (early 5011 (by decide) hR)))
  rw [if_neg (fun q => q hv)] at hR
  /- what comes of the attributes -/
  refine wp_eq (e117_5 ..) (wp_cr (mw_isReq (d := d + 3) j69 ⟨_, rfl, wp_asI0 ?_⟩))
  refine wp_if (fun hq => ?_) (fun hq => ?_) <;> rw [b2i_0] at hq
  · have hq : u8 (vI A 64) c 4 &&& 128 = 0 := Classical.not_not.mp hq
    rw [if_neg (fun q => q.1 hq), if_neg (fun q => q.1 hq)] at hR
    have e15 : (u8 (vI A 64) c 4 &&& 15 ≠ 0 ∨ (u8 (vI A 64) c 4 &&& 128 ≠ 0 ∧ u8 (vI A 64) c 4 &&& 32 ≠ 0)) = (u8 (vI A 64) c 4 &&& 15 ≠ 0) := propext ⟨fun h => h.elim id (fun h => absurd hq h.1), .inl⟩
    have edec : decide (u8 (vI A 64) c 4 &&& 128 ≠ 0) = false := decide_eq_false (fun q => q hq)
    simp only [e15, edec] at hR
    refine wp_eq (e117_23 ..) ?_
    rw [j69]
    refine wp_if (fun h15 => ?_) (fun h15 => ?_)
    rotate_left
    · rw [if_pos h15] at hR
      exact wp_eq (e117_24 ..) (wp_sw (wp_ret (early 3008 (by decide) hR)))
    rw [if_neg (fun q => q h15)] at hR
    refine wp_eq (e117_25 ..) (wp_cv (mw_att (d := d) hM2 hP hc hn ⟨j67, j68, j69, j70, j71, j72, j73⟩ g274 hs2 ?_ ?_))
    · intro σ' hw hM' hh h74 h75 hs'
      refine ⟨rfl, ?_⟩
      obtain ⟨i67, i68, i69, i70, i71, i72, i73⟩ := hf_hs ⟨j67, j68, j69, j70, j71, j72, j73⟩ hh
      rw [if_neg (fun q => q hw)] at hR
      have hlen := rx_len (r := vI A 64) (c := c) hn
      generalize (fn_walk (vI A 64) c 601 20 n 0 []).2 = l at *
      have of0 : ∀ k, k < 12 → (gI σ' 68157840 0 k = 0 ↔ fn_find l (z_keys.getD k 0) = none) := by
        intro k hk
        have := many_le l (z_keys.getD k 0)
        rw [show gI σ' 68157840 0 k = Int32.ofNat (fn_many l (z_keys.getD k 0)) from (hs'.1 k hk).1, io_eq_l (by omega) (by decide), ← many_0]
      have fin : fn_lack l false (fn_wants false (n3 (vI A 64) c 5)) = (0, 0) → Q σ' none := by
        intro hl
        rw [hl] at hR
        have := k σ'
        rw [hR] at this
        exact this (mk_M hM' i67 i69 i70 i71 i72 i73 h74 (fun q => absurd hq q) (fun k hk _ => hs'.1 k hk) (fun _ => hs'))
      have bad : ∀ w, fn_lack l false (fn_wants false (n3 (vI A 64) c 5)) = (5005, w) → Q (wI σ' 8 74 0 5005) none := by
        intro w hl
        rw [hl] at hR
        have := k (wI σ' 8 74 0 5005)
        rw [hR] at this
        exact this (mk_M (mw8_74 hM' hP 5005) i67 i69 i70 i71 i72 i73 rfl (fun q => absurd hq q) (fun k hk _ => hs'.1 k hk) (fun q => absurd q (show ¬ (5005 : Int32) = 0 by decide)))
      have lk : fn_lack l false (fn_wants false (n3 (vI A 64) c 5)) = match ([268, 264, 296] : List Int32).find? fun w => (fn_find l w).isNone with
        | some w => (5005, w)
        | none => (0, 0) := rfl
      rw [lk] at fin bad
      have b29 : ∀ w, ([268, 264, 296] : List Int32).find? (fun w => (fn_find l w).isNone) = some w → wp (E xP117 (zD (d + 4)) 29 [some (.inr (.inr (some (8, 0)))), none, none] [] σ') Q := by
        intro w h
        rw [h] at bad
        exact wp_eq (e117_29 ..) (wp_sw (wp_eq (e117_30 ..) (wp_ret (bad w rfl))))
      have no : ∀ x, ¬ fn_find l x = none → (fn_find l x).isNone = false := fun x h => by cases e : fn_find l x with | none => exact absurd e h | some _ => rfl
      refine wp_if (fun _ => ?_) (fun q => absurd h74 q)
      refine wp_eq (e117_26 ..) (wp_ar (k := 7) (rm_p79 hM') aty_68157840 alen_68157840 rfl (by decide) (by decide) ?_)
      refine wp_if (fun h => ?_) (fun h => ?_) <;> rw [show gI σ' (68157840, 0).1 (68157840, 0).2 (Int32.toNatClampNeg 7) = gI σ' 68157840 0 7 from rfl, of0 7 (by decide)] at h
      · exact b29 268 (by rw [List.find?_cons, show (fn_find l 268).isNone = true by rw [show fn_find l 268 = none from h]; rfl])
      refine wp_eq (e117_27 ..) (wp_ar (k := 1) (rm_p79 hM') aty_68157840 alen_68157840 rfl (by decide) (by decide) ?_)
      refine wp_if (fun h1 => ?_) (fun h1 => ?_) <;> rw [show gI σ' (68157840, 0).1 (68157840, 0).2 (Int32.toNatClampNeg 1) = gI σ' 68157840 0 1 from rfl, of0 1 (by decide)] at h1
      · exact b29 264 (by rw [List.find?_cons, no 268 h, List.find?_cons, show (fn_find l 264).isNone = true by rw [show fn_find l 264 = none from h1]; rfl])
      refine wp_eq (e117_28 ..) (wp_ar (k := 2) (rm_p79 hM') aty_68157840 alen_68157840 rfl (by decide) (by decide) ?_)
      refine wp_if (fun h2 => ?_) (fun h2 => ?_) <;> rw [show gI σ' (68157840, 0).1 (68157840, 0).2 (Int32.toNatClampNeg 2) = gI σ' 68157840 0 2 from rfl, of0 2 (by decide)] at h2
      · exact b29 296 (by rw [List.find?_cons, no 268 h, List.find?_cons, no 264 h1, List.find?_cons, show (fn_find l 296).isNone = true by rw [show fn_find l 296 = none from h2]; rfl])
      · refine wp_eq (e117_30 ..) (wp_ret (fin ?_))
        rw [List.find?_cons, no 268 h, List.find?_cons, no 264 h1, List.find?_cons, no 296 h2]
        rfl
    · intro σ' hw hM' hh h74 h75 hk'
      refine ⟨rfl, wp_if (fun q => absurd (h74.symm.trans q) hw) (fun _ => wp_eq (e117_30 ..) (wp_ret ?_))⟩
      obtain ⟨i67, i68, i69, i70, i71, i72, i73⟩ := hf_hs ⟨j67, j68, j69, j70, j71, j72, j73⟩ hh
      rw [if_pos hw] at hR
      have := k σ'
      rw [hR] at this
      exact this (mk_M hM' i67 i69 i70 i71 i72 i73 h74 (fun q => absurd hq q) (fun k hk q => hk' k (q.resolve_left hw)) (fun q => absurd q hw))
  · have hq : ¬ u8 (vI A 64) c 4 &&& 128 = 0 := fun q => hq (fun h => h q)
    have edec : decide (u8 (vI A 64) c 4 &&& 128 ≠ 0) = true := decide_eq_true hq
    simp only [edec] at hR
    have k22 : ∀ σ, Q σ none → wp (E xP117 (zD (d + 4)) 22 [none, none, none] [] σ) Q := fun σ q => wp_eq (e117_22 ..) (wp_ret q)
    have k21 : fn_read (vI A 64) c n = (if (fn_walk (vI A 64) c 601 20 n 0 []).1.1 ≠ 0 then ((c, n, u8 (vI A 64) c 4, n3 (vI A 64) c 5, n4 (vI A 64) c 8, n4 (vI A 64) c 12, n4 (vI A 64) c 16, (fn_walk (vI A 64) c 601 20 n 0 []).1.1, (fn_walk (vI A 64) c 601 20 n 0 []).1.2, (fn_walk (vI A 64) c 601 20 n 0 []).2) : w_P) else (c, n, u8 (vI A 64) c 4, n3 (vI A 64) c 5, n4 (vI A 64) c 8, n4 (vI A 64) c 12, n4 (vI A 64) c 16, (fn_lack (fn_walk (vI A 64) c 601 20 n 0 []).2 true (fn_wants true (n3 (vI A 64) c 5))).1, (fn_lack (fn_walk (vI A 64) c 601 20 n 0 []).2 true (fn_wants true (n3 (vI A 64) c 5))).2, (fn_walk (vI A 64) c 601 20 n 0 []).2)) → wp (E xP117 (zD (d + 4)) 21 [some (.inr (.inr (some (8, 0)))), none, none] [] σ2) Q := by
      intro hR
      refine wp_eq (e117_21 ..) (wp_cv (mw_att (d := d) hM2 hP hc hn ⟨j67, j68, j69, j70, j71, j72, j73⟩ g274 hs2 ?_ ?_))
      · intro σ' hw hM' hh h74 h75 hs'
        refine ⟨rfl, ?_⟩
        obtain ⟨i67, i68, i69, i70, i71, i72, i73⟩ := hf_hs ⟨j67, j68, j69, j70, j71, j72, j73⟩ hh
        rw [if_neg (fun q => q hw)] at hR
        have hlen := rx_len (r := vI A 64) (c := c) hn
        generalize (fn_walk (vI A 64) c 601 20 n 0 []).2 = l at *
        refine wp_cv (mw_lacks (d := d + 2) hM' hP hs' (by show l.length ≤ 200; omega) i70 h74 (fun hl => ⟨rfl, k22 _ ?_⟩) (fun w x hl hw0 hM3 => ⟨rfl, k22 _ ?_⟩))
        · have hl : fn_lack l true (fn_wants true (n3 (vI A 64) c 5)) = (0, 0) := hl
          rw [hl] at hR
          have := k σ'
          rw [hR] at this
          refine this (mk_M hM' i67 i69 i70 i71 i72 i73 h74 (fun _ => ?_) (fun k hk _ => hs'.1 k hk) (fun _ => hs'))
          exact h75.trans g275
        · have hl : fn_lack l true (fn_wants true (n3 (vI A 64) c 5)) = (w, x) := hl
          rw [hl] at hR
          have := k (wI (wI σ' 8 74 0 w) 8 75 0 x)
          rw [hR] at this
          exact this (mk_M hM3 i67 i69 i70 i71 i72 i73 rfl (fun _ => rfl) (fun k hk _ => hs'.1 k hk) (fun q => absurd q hw0))
      · intro σ' hw hM' hh h74 h75 hk'
        refine ⟨rfl, wp_cv (mw_lacksW (d := d + 2) (fun q => hw (h74.symm.trans q)) ⟨rfl, k22 _ ?_⟩)⟩
        obtain ⟨i67, i68, i69, i70, i71, i72, i73⟩ := hf_hs ⟨j67, j68, j69, j70, j71, j72, j73⟩ hh
        rw [if_pos hw] at hR
        have := k σ'
        rw [hR] at this
        exact this (mk_M hM' i67 i69 i70 i71 i72 i73 h74 (fun _ => h75) (fun k hk q => hk' k (q.resolve_left hw)) (fun q => absurd q hw))
    have k14 : (n3 (vI A 64) c 5 = 257 ∨ n3 (vI A 64) c 5 = 280 ∨ n3 (vI A 64) c 5 = 282 ∨ n3 (vI A 64) c 5 = 272) → wp (E xP117 (zD (d + 4)) 12 [some (.inr (.inr (some (8, 0)))), none, none] [.inl 1] σ2) Q := by
      intro h4
      rw [if_neg (fun q => q.2 h4)] at hR
      have k17 : ∀ x : Int32, x = (if n3 (vI A 64) c 5 = 272 then 4 else 0) → wp (E xP117 (zD (d + 4)) 17 [some (.inr (.inr (some (8, 0)))), none, none] [.inl x, .inl (n4 (vI A 64) c 8)] σ2) Q := by
        rintro x rfl
        refine wp_eq (e117_17 ..) (wp_if (fun ha => ?_) (fun ha => ?_))
        rotate_left
        · rw [if_pos ⟨hq, ha⟩] at hR
          exact wp_eq (e117_18 ..) (wp_sw (k22 _ (early 3007 (by decide) hR)))
        rw [if_neg (fun q => q.2 ha)] at hR
        refine wp_eq (e117_19 ..) ?_
        rw [j69]
        refine wp_if (fun h47 => ?_) (fun h47 => ?_) <;> rw [and_47] at h47
        · rw [if_neg (fun q => q.elim (fun q => q h47.1) (fun q => q.2 h47.2))] at hR
          exact k21 hR
        · rw [if_pos (Classical.byContradiction fun q => h47 ⟨Classical.byContradiction fun g => q (.inl g), Classical.byContradiction fun g => q (.inr ⟨hq, g⟩)⟩)] at hR
          exact wp_eq (e117_20 ..) (wp_sw (k22 _ (early 3008 (by decide) hR)))
      refine wp_eq (e117_12 ..) (wp_if (fun q => absurd q (by decide)) (fun _ => ?_))
      refine wp_eq (e117_14 ..) ?_
      rw [j70, j71]
      refine wp_if (fun h => ?_) (fun h => ?_)
      · exact wp_eq (e117_15 ..) (k17 4 (by rw [if_pos h]))
      · exact wp_eq (e117_16 ..) (k17 0 (by rw [if_neg h]))
    refine wp_eq (e117_6 ..) ?_
    rw [j70]
    refine wp_if (fun h => wp_eq (e117_10 ..) (k14 (.inl h))) (fun h1 => ?_)
    refine wp_eq (e117_7 ..) ?_
    rw [j70]
    refine wp_if (fun h => wp_eq (e117_10 ..) (k14 (.inr (.inl h)))) (fun h2 => ?_)
    refine wp_eq (e117_8 ..) ?_
    rw [j70]
    refine wp_if (fun h => wp_eq (e117_10 ..) (k14 (.inr (.inr (.inl h))))) (fun h3 => ?_)
    refine wp_eq (e117_9 ..) ?_
    rw [j70]
    refine wp_if (fun h => wp_eq (e117_10 ..) (k14 (.inr (.inr (.inr h))))) (fun h4 => ?_)
    rw [if_pos ⟨hq, fun q => q.elim h1 (fun q => q.elim h2 (fun q => q.elim h3 h4))⟩] at hR
    exact wp_eq (e117_11 ..) (wp_eq (e117_12 ..) (wp_if (fun _ => wp_eq (e117_13 ..) (wp_sw (k22 _ (early 3001 (by decide) hR)))) (fun q => absurd rfl q)))
