/-! PART 84c (src 84c.xcredit.src): the component's credit -/
set_option maxHeartbeats 800000
theorem fn_ins_s (r : Nat → Int32) (c : Nat) (code : Int32) (f k e : Nat) : fn_ins r c code (f + 1) k e = if e ≤ k then none
    else if fn_hs r c k = 8 ∧ n4 r c k = code then some (k + 8, nl r c k - 8)
    else fn_ins r c code f (k + (nl r c k + 3) / 4 * 4) e := rfl
theorem ins_ok {r : Nat → Int32} {c : Nat} {code : Int32} (hk : ¬ fn_kind code = 0) : ∀ (f k e a n : Nat), z_okk r c f k e → fn_ins r c code f k e = some (a, n) → k + 8 ≤ a ∧ a + n ≤ e ∧ fn_fits (fn_kind code) n
  | 0, _, _, _, _, _, h => by cases h
  | f + 1, k, e, a, n, ho, h => by
    rw [fn_ins_s] at h
    by_cases h1 : e ≤ k
    · rw [if_pos h1] at h; cases h
    rw [if_neg h1] at h
    rcases ho with ho | ⟨g1, g2, g3, g4, g5⟩
    · exact absurd ho h1
    by_cases h2 : fn_hs r c k = 8 ∧ n4 r c k = code
    · rw [if_pos h2] at h
      injection h with h
      injection h with ha hn
      subst ha hn
      have hkd : fn_kd r c k = fn_kind code := by
        unfold fn_kd
        have := h2.1
        unfold fn_hs at this
        split at this
        · rename_i q; rw [if_pos q, h2.2]
        · exact absurd this (by decide)
      rw [hkd] at g4
      exact ⟨by omega, by omega, g4 hk⟩
    · rw [if_neg h2] at h
      have := ins_ok hk f _ e a n g5 h
      exact ⟨by omega, this.2⟩
theorem rP_ins {r : Nat → Int32} {P : w_P} (h : z_rP r P) {grp code : Int32} (hg : fn_kind grp = 5) (hk : ¬ fn_kind code = 0) {a n : Nat} (hi : fn_inside r P grp code = some (a, n)) : 36 ≤ a ∧ a + n ≤ 600 ∧ fn_fits (fn_kind code) n := by
  unfold fn_inside at hi
  split at hi
  · rename_i q hf
    have hq := rP_grp h hg q hf
    have := ins_ok hk 601 _ _ a n hq.2.2 hi
    exact ⟨by omega, by omega, this.2.2⟩
  · cases hi
theorem xw14 {T σ : z_St} {A : w_A} (h : w_X T σ A) (x : Int32) : w_X T (wI σ 3 14 0 x) A := by
  obtain ⟨hT, hA, hB, hC, hD, hE, hF, hG, hH, hI, hJ, hK, hL, hM, hN⟩ := h
  exact ⟨x_T_wI hT (z_isM_dec _ rfl), hA, hB, hC, hD, hE, hF, hG, hH, hI, hJ, hK, hL, hM, hN⟩
theorem xl_inside {T σ : z_St} {A : w_A} (hX : w_X T σ A) {c : Nat} (hc1 : 1 ≤ c) (hc : c ≤ 8) (hp : gR σ 3 1 0 = some (73419537, c)) {d e : Nat} (he : e ≤ 600) {code : Int32} {Q : z_St → Option z_V → Prop} : ∀ (f k : Nat), k ≤ 1000 → z_okk (vI A 64) c f k e → (fn_ins (vI A 64) c code f k e = none → Q σ (some (.inl (-1)))) → (∀ a n, fn_ins (vI A 64) c code f k e = some (a, n) → w_X T (wI σ 3 14 0 (Int32.ofNat n)) A → Q (wI σ 3 14 0 (Int32.ofNat n)) (some (.inl (Int32.ofNat a)))) →
    wp (E xP210 (zD (d + 1)) 3 [some (.inr (.inr (some (3, 0)))), none, some (.inl code), none, some (.inl (Int32.ofNat k)), some (.inl (Int32.ofNat e)), none, none] [] σ) Q
  | 0, k, hk, ho, k0, k1 => by
    have ho : e ≤ k := ho
    refine wp_eq (e210_3 ..) (wp_if (fun h => ?_) (fun h => ?_)) <;> rw [io_le (by omega) (by omega)] at h
    · exact wp_eq (e210_11 ..) (wp_ret (k0 rfl))
    · omega
  | f + 1, k, hk, ho, k0, k1 => by
    have hr : ∀ j, j < 600 → gI σ 73419537 c j = vI A 64 (600 * c + j) := fun j hj => rx_I hX c hc1 hc j hj
    generalize hrr : vI A 64 = r at *
    rw [fn_ins_s] at k0 k1
    refine wp_eq (e210_3 ..) (wp_if (fun h => ?_) (fun h => ?_)) <;> rw [io_le (by omega) (by omega)] at h
    · rw [if_pos h] at k0
      exact wp_eq (e210_11 ..) (wp_ret (k0 rfl))
    rw [if_neg h] at k0 k1
    rcases ho with ho | ⟨g1, g2, g3, g4, g5⟩
    · exact absurd ho h
    have hnl := nl_lt r c k
    have hhs := hs_ge r c k
    refine wp_eq (e210_4 ..) (wp_cr (xc_get (d := d) (a := k + 5) (n := 3) hX hc1 hc hp (by omega) (io_add_l k 5) rfl ⟨_, rfl, wp_asJ0 (wp_dr hp (wp_gd aty_73419537 (wp_gd ?_ ?_)))⟩))
    · rw [alen_73419537, io_add_l]; exact zin_io (by omega) (by decide)
    dsimp only
    rw [hrr, gw3, n3_nl, io_add_l, io_nat (by omega), hr (k + 4) (by omega)]
    have hu : ∀ x : Int32, (x &&& 255) &&& 128 = x &&& 128 := fun x => by rw [Int32.and_assoc]; rfl
    have h128 : (r (600 * c + (k + 4)) &&& 128 = 0) = (u8 r c (k + 4) &&& 128 = 0) := by unfold u8; rw [hu]
    have next : ¬ (fn_hs r c k = 8 ∧ n4 r c k = code) → wp (E xP210 (zD (d + 1)) 10 [some (.inr (.inr (some (3, 0)))), none, some (.inl code), none, some (.inl (Int32.ofNat k)), some (.inl (Int32.ofNat e)), some (.inl (Int32.ofNat (nl r c k))), none] [] σ) Q := by
      intro hn
      rw [if_neg hn] at k0 k1
      refine wp_eq (e210_10 ..) ?_
      rw [io_add_l, io_div_l (by omega) (by decide), io_mul_l, io_add]
      subst hrr
      exact xl_inside hX hc1 hc hp he f _ (by omega) g5 k0 k1
    have key : ∀ x, x = fn_hs r c k → wp (E xP210 (zD (d + 1)) 7 [some (.inr (.inr (some (3, 0)))), none, some (.inl code), none, some (.inl (Int32.ofNat k)), some (.inl (Int32.ofNat e)), some (.inl (Int32.ofNat (nl r c k))), none] [.inl (Int32.ofNat x)] σ) Q := by
      rintro x rfl
      refine wp_eq (e210_7 ..) (wp_if (fun h8 => ?_) (fun h8 => ?_)) <;> rw [io_eq_l (by omega) (by decide)] at h8
      · refine wp_eq (e210_8 ..) (wp_cr (xc_get (d := d) (a := k) (n := 4) hX hc1 hc hp (by omega) rfl rfl ⟨_, rfl, wp_asJ0 ?_⟩))
        rw [hrr, gw4]
        refine wp_if (fun hcode => ?_) (fun hcode => ?_)
        · rw [if_pos ⟨h8, hcode⟩] at k1
          have h8 : fn_hs r c k = 8 := h8
          refine wp_eq (e210_9 ..) ?_
          rw [h8, io_sub (show 8 ≤ nl r c k by omega), io_add]
          exact wp_sw (wp_ret (k1 _ _ rfl (xw14 hX _)))
        · exact next fun q => hcode q.2
      · exact next fun q => h8 q.1
    refine wp_if (fun hb => ?_) (fun hb => ?_) <;> rw [h128] at hb
    · refine wp_eq (e210_6 ..) (key 8 ?_)
      unfold fn_hs
      rw [if_pos hb]
    · refine wp_eq (e210_5 ..) (key 12 ?_)
      unfold fn_hs
      rw [if_neg hb]
theorem xc_inside {T σ : z_St} {A : w_A} (hX : w_X T σ A) {P : w_P} (hm : x_msg σ P) (hr : z_rP (vI A 64) P) {grp code : Int32} (hg : fn_kind grp = 5) {d : Nat} {Q : z_St → Option z_V → Prop}
    (k0 : fn_inside (vI A 64) P grp code = none → Q σ (some (.inl (-1)))) (k1 : ∀ a n, fn_inside (vI A 64) P grp code = some (a, n) → w_X T (wI σ 3 14 0 (Int32.ofNat n)) A → Q (wI σ 3 14 0 (Int32.ofNat n)) (some (.inl (Int32.ofNat a)))) : wp (zD (d + 2) 210 [.inr (.inr (some (3, 0))), .inl grp, .inl code] σ) Q := by
  obtain ⟨hc1, hc8⟩ := rP_C hr
  have hl := rP_len hr
  unfold fn_inside at k0 k1
  refine wp_eq (c210 ..) (wp_eq (e210_0 ..) (wp_cr (xc_find (d := d) hX hm (by omega) (fun hf => ⟨_, rfl, wp_asI0 ?_⟩) (fun j hj hf => ⟨_, rfl, wp_asI0 ?_⟩))))
  · rw [hf] at k0
    exact wp_if (fun q => absurd q (by decide)) (fun _ => wp_eq (e210_1 ..) (wp_ret (k0 rfl)))
  · rw [hf] at k0 k1
    have h10 := hm.2.2.2.2.2.2.2.2.2 j hj
    have hq := rP_grp hr hg _ hf
    refine wp_if (fun _ => ?_) (fun q => absurd (io_pos (by omega)) q)
    refine wp_eq (e210_2 ..) (wp_dr (rx_p3_9 hX) (wp_gd aty_77597200 (wp_gd ?_ (wp_dr (rx_p3_10 hX) (wp_gd aty_78645776 (wp_gd ?_ ?_))))))
    · rw [alen_77597200]; exact zin_io (by omega) (by decide)
    · rw [alen_78645776]; exact zin_io (by omega) (by decide)
    dsimp only
    rw [io_nat (by omega), h10.2.1, h10.2.2, io_add]
    exact xl_inside (d := d) hX hc1 hc8 hm.1 hq.2.1 601 _ (by omega) hq.2.2 k0 k1
theorem msg_14 {σ : z_St} {P : w_P} {x : Int32} (hm : x_msg σ P) : x_msg (wI σ 3 14 0 x) P := hm
theorem xc_units_ {T σ : z_St} {A : w_A} (hX : w_X T σ A) {P : w_P} (hm : x_msg σ P) (hr : z_rP (vI A 64) P) {grp : Int32} (hg : fn_kind grp = 5) {d : Nat} {Q : z_St → Option z_V → Prop} (k : ∀ σ, w_X T σ A → x_msg σ P → Q σ (some (.inr (.inl (fn_units (vI A 64) P grp))))) : wp (zD (d + 3) 54 [.inr (.inr (some (3, 0))), .inl grp] σ) Q := by
  obtain ⟨hc1, hc8⟩ := rP_C hr
  unfold fn_units at k
  refine wp_eq (c54 ..) (wp_eq (e54_0 ..) (wp_dr rfl (wp_gd rfl (wp_cr (xc_inside (d := d) hX hm hr hg (fun hf => ⟨_, rfl, wp_asI0 ?_⟩) (fun a n hf hX => ⟨_, rfl, wp_asI0 ?_⟩))))))
  · rw [hf] at k
    exact wp_if (fun q => absurd q (by decide)) (fun _ => wp_eq (e54_1 ..) (wp_eq (e54_3 ..) (wp_ret (k σ hX hm))))
  · rw [hf] at k
    have hi := rP_ins hr hg (show ¬ fn_kind 421 = 0 by decide) hf
    have h8 := hi.2.2.2.2.1 (by decide)
    refine wp_if (fun _ => ?_) (fun q => absurd (io_pos (by omega)) q)
    refine wp_eq (e54_2 ..) (wp_dr rfl (wp_gd rfl (wp_cr (xc_get (d := d + 1) (a := a) (n := 8) hX hc1 hc8 (msg_14 hm).1 (by omega) rfl rfl ⟨_, rfl, wp_eq (e54_3 ..) (wp_ret ?_)⟩))))
    rw [gw8]
    exact k _ hX (msg_14 hm)
theorem xc_right {T σ : z_St} {A : w_A} (hX : w_X T σ A) {P : w_P} (hm : x_msg σ P) (hr : z_rP (vI A 64) P) {grp : Int32} (hg : fn_kind grp = 5) {d : Nat} {Q : z_St → Option z_V → Prop} (k : ∀ σ, w_X T σ A → x_msg σ P → Q σ (some (.inl (b2i (fn_right (vI A 64) P grp))))) : wp (zD (d + 3) 55 [.inr (.inr (some (3, 0))), .inl grp] σ) Q := by
  obtain ⟨hc1, hc8⟩ := rP_C hr
  unfold fn_right fn_units at k
  refine wp_eq (c55 ..) (wp_eq (e55_0 ..) (wp_dr rfl (wp_gd rfl (wp_cr (xc_inside (d := d) hX hm hr hg (fun hf => ⟨_, rfl, wp_asI0 ?_⟩) (fun a n hf hX => ⟨_, rfl, wp_asI0 ?_⟩))))))
  · rw [hf] at k
    have := k σ hX hm
    rw [b2i_t (.inl rfl)] at this
    exact wp_if (fun _ => wp_eq (e55_2 ..) (wp_eq (e55_4 ..) (wp_gd (.inr rfl) (wp_ret this)))) (fun q => absurd (by decide) q)
  · rw [hf] at k
    have hi := rP_ins hr hg (show ¬ fn_kind 421 = 0 by decide) hf
    have h8 := hi.2.2.2.2.1 (by decide)
    have kk := k _ hX (msg_14 hm)
    dsimp only at kk
    refine wp_if (fun q => absurd q (io_neg (by omega))) (fun _ => ?_)
    refine wp_eq (e55_1 ..) (wp_dr rfl (wp_gd rfl (wp_cr (xc_get (d := d + 1) (a := a) (n := 8) hX hc1 hc8 (msg_14 hm).1 (by omega) rfl rfl ⟨_, rfl, ?_⟩))))
    rw [gw8]
    refine wp_cr (xc_isIn (d := d + 1) fun v hv => ⟨_, hv, wp_asI0 ?_⟩)
    refine wp_if (fun q => ?_) (fun q => ?_) <;> rw [b2i_0] at q
    · rw [b2i_f (fun h => h.elim (fun h => by cases h) q)] at kk
      exact wp_eq (e55_3 ..) (wp_eq (e55_4 ..) (wp_gd (.inl rfl) (wp_ret kk)))
    · rw [b2i_t (.inr (Classical.not_not.mp q))] at kk
      exact wp_eq (e55_2 ..) (wp_eq (e55_4 ..) (wp_gd (.inr rfl) (wp_ret kk)))
/-! accounts -/
theorem xl_acct {T σ : z_St} {A : w_A} (hX : w_X T σ A) (hl : vN A 1 0 ≤ 16) {d : Nat} {v : Int64} {Q : z_St → Option z_V → Prop} (k : Q σ (some (.inr (.inr ((fn_acct A v).map fun a => (10, a)))))) : ∀ (m j : Nat), j + m = vN A 1 0 → fn_acct A v = fn_from (fun a => decide (vJ A 0 a = v)) m j →
    wp (E xP56 (zD (d + 1)) 1 [some (.inr (.inr (some (0, 0)))), some (.inr (.inl v)), none, some (.inl (Int32.ofNat j))] [] σ) Q
  | 0, j, hj, hf => by
    rw [hf] at k
    refine wp_eq (e56_1 ..) (wp_if (fun hc => ?_) (fun hc => ?_)) <;> rw [rx_ACCS hX, io_le (by omega) (by omega)] at hc
    · exact wp_eq (e56_5 ..) (wp_ret k)
    · omega
  | m + 1, j, hj, hf => by
    have zj : zin (Int32.ofNat j) (aLen 3146262) := by rw [alen_3146262]; exact zin_io (by omega) (by decide)
    have ao := (rx_F hX).2 j (by omega)
    refine wp_eq (e56_1 ..) (wp_if (fun hc => ?_) (fun hc => ?_)) <;> rw [rx_ACCS hX, io_le (by omega) (by omega)] at hc
    · omega
    · refine wp_eq (e56_2 ..) (wp_dr (rx_p0_9 hX) (wp_gd (by rw [aty_3146262]; decide) (wp_gd zj ?_)))
      dsimp only
      rw [io_nat (by omega)]
      refine wp_dr ao (wp_gd rfl ?_)
      dsimp only
      rw [rx_ANUM hX]
      refine wp_if (fun h => ?_) (fun h => ?_) <;> rw [lg_eq] at h
      · rw [from_y (decide_eq_true h)] at hf
        rw [hf] at k
        refine wp_eq (e56_3 ..) (wp_dr (rx_p0_9 hX) (wp_gd (by rw [aty_3146262]; decide) (wp_gd zj ?_)))
        dsimp only
        rw [io_nat (by omega), ao]
        exact wp_ret k
      · rw [from_n (by rw [decide_eq_false h]; decide)] at hf
        refine wp_eq (e56_4 ..) ?_
        rw [io_add_l]
        exact xl_acct hX hl k m (j + 1) (by omega) hf
theorem xc_acct {T σ : z_St} {A : w_A} (hX : w_X T σ A) (hl : vN A 1 0 ≤ 16) {d : Nat} {v : Int64} {Q : z_St → Option z_V → Prop} (k : Q σ (some (.inr (.inr ((fn_acct A v).map fun a => (10, a)))))) : wp (zD (d + 1 + 1) 56 [.inr (.inr (some (0, 0))), .inr (.inl v)] σ) Q :=
  wp_eq (c56 ..) (wp_eq (e56_0 ..) (xl_acct hX hl k (vN A 1 0) 0 (by omega) (fn_first_from _ _)))
theorem xl_dig {T σ : z_St} {A : w_A} (hX : w_X T σ A) {P : w_P} (hm : x_msg σ P) (hr : z_rP (vI A 64) P) (hl : vN A 1 0 ≤ 16) {a n : Nat} (han : a + n ≤ 600) (h14 : gI σ 3 14 0 = Int32.ofNat n) {d : Nat} {Q : z_St → Option z_V → Prop} : ∀ (m j : Nat) (v : Int64), j + m = n → Q σ (some (.inr (.inr (((fn_dig (vI A 64) (pC P) m (a + j) v).bind (fn_acct A)).map fun a => (10, a))))) →
    wp (E xP57 (zD (d + 2)) 4 [some (.inr (.inr (some (0, 0)))), some (.inr (.inr (some (3, 0)))), some (.inl (Int32.ofNat a)), some (.inr (.inl v)), none, some (.inl (Int32.ofNat j)), none] [] σ) Q
  | 0, j, v, hj, k => by
    refine wp_eq (e57_4 ..) (wp_dr rfl (wp_gd rfl (wp_if (fun hc => ?_) (fun hc => ?_)))) <;> dsimp only at hc <;> rw [h14, io_le (by omega) (by omega)] at hc
    · refine wp_eq (e57_9 ..) (wp_cr (xc_acct (d := d) hX hl ⟨_, rfl, ?_⟩))
      rw [asR_mk]
      exact wp_ret k
    · omega
  | m + 1, j, v, hj, k => by
    obtain ⟨hc1, hc8⟩ := rP_C hr
    refine wp_eq (e57_4 ..) (wp_dr rfl (wp_gd rfl (wp_if (fun hc => ?_) (fun hc => ?_)))) <;> dsimp only at hc <;> rw [h14, io_le (by omega) (by omega)] at hc
    · omega
    · refine wp_eq (e57_5 ..) (wp_dr rfl (wp_gd rfl (wp_dr hm.1 (wp_gd aty_73419537 (wp_gd ?_ ?_)))))
      · rw [alen_73419537, io_add]; exact zin_io (by omega) (by decide)
      dsimp only
      rw [io_add, io_nat (by omega), rx_I hX _ hc1 hc8 (a + j) (by omega)]
      rw [fn_dig] at k
      refine wp_if (fun h1 => ?_) (fun h1 => ?_)
      · rw [if_pos (.inl h1)] at k
        exact wp_eq (e57_7 ..) (wp_ret k)
      refine wp_eq (e57_6 ..) (wp_if (fun h2 => ?_) (fun h2 => ?_))
      · rw [if_neg (fun q => q.elim h1 (Int32.not_lt.mpr h2))] at k
        refine wp_eq (e57_8 ..) ?_
        rw [io_add_l]
        exact xl_dig hX hm hr hl han h14 m (j + 1) _ (by omega) k
      · rw [if_pos (.inr (Int32.not_le.mp h2))] at k
        exact wp_eq (e57_7 ..) (wp_ret k)
theorem xc_sub {T σ : z_St} {A : w_A} (hX : w_X T σ A) {P : w_P} (hm : x_msg σ P) (hr : z_rP (vI A 64) P) (hl : vN A 1 0 ≤ 16) {d : Nat} {Q : z_St → Option z_V → Prop} (k : ∀ σ, w_X T σ A → x_msg σ P → Q σ (some (.inr (.inr ((fn_sub A P).map fun a => (10, a)))))) : wp (zD (d + 3) 57 [.inr (.inr (some (0, 0))), .inr (.inr (some (3, 0)))] σ) Q := by
  unfold fn_sub at k
  refine wp_eq (c57 ..) (wp_eq (e57_0 ..) (wp_dr rfl (wp_gd rfl (wp_cr (xc_inside (d := d) hX hm hr (by decide) (fun hf => ⟨_, rfl, wp_asI0 ?_⟩) (fun a n hf hX => ⟨_, rfl, wp_asI0 ?_⟩))))))
  · rw [hf] at k
    exact wp_if (fun _ => wp_eq (e57_2 ..) (wp_ret (k σ hX hm))) (fun q => absurd (by decide) q)
  · rw [hf] at k
    have hi := rP_ins hr (show fn_kind 443 = 5 by decide) (show ¬ fn_kind 444 = 0 by decide) hf
    have kk := k _ hX (msg_14 hm)
    dsimp only at kk
    refine wp_if (fun q => absurd q (io_neg (by omega))) (fun _ => ?_)
    have h14 : gI (wI σ 3 14 0 (Int32.ofNat n)) 3 14 0 = Int32.ofNat n := by rw [gI_wI, if_pos ⟨rfl, rfl, rfl⟩]
    refine wp_eq (e57_1 ..) (wp_dr rfl (wp_gd rfl (wp_if (fun hc => ?_) (fun hc => ?_)))) <;> dsimp only at hc <;> rw [h14, io_le_l (by omega) (by decide)] at hc
    · have hc : n ≤ 17 := hc
      rw [if_neg (by omega)] at kk
      exact wp_eq (e57_3 ..) (xl_dig (d := d) hX (msg_14 hm) hr hl (a := a) (n := n) (by omega) h14 n 0 0 (by omega) kk)
    · have hc : ¬ n ≤ 17 := hc
      rw [if_pos (by omega)] at kk
      exact wp_eq (e57_2 ..) (wp_ret kk)
/-! sessions -/
theorem xl_sess {T σ : z_St} {A : w_A} (hX : w_X T σ A) {P : w_P} (hm : x_msg σ P) (hr : z_rP (vI A 64) P) (hl : vN A 2 0 ≤ 16) (hsn : z_SN A) {d : Nat} {Q : z_St → Option z_V → Prop} (k : Q σ (some (.inr (.inr ((fn_sess A P).map fun s => (5, vN A 17 s)))))) : ∀ (m j : Nat), j + m = vN A 2 0 → fn_sess A P = fn_from (fun s => fn_isT (vI A 64) P 263 (vL A 4 s)) m j →
    wp (E xP58 (zD (d + 2)) 1 [some (.inr (.inr (some (0, 0)))), some (.inr (.inr (some (3, 0)))), some (.inl (Int32.ofNat j))] [] σ) Q
  | 0, j, hj, hf => by
    rw [hf] at k
    refine wp_eq (e58_1 ..) (wp_if (fun hc => ?_) (fun hc => ?_)) <;> rw [rx_SESS hX, io_le (by omega) (by omega)] at hc
    · exact wp_eq (e58_5 ..) (wp_ret k)
    · omega
  | m + 1, j, hj, hf => by
    obtain ⟨hc1, hc8⟩ := rP_C hr
    have hln := rP_len hr
    have zj : zin (Int32.ofNat j) (aLen 4194839) := by rw [alen_4194839]; exact zin_io (by omega) (by decide)
    have so := rx_sobj hX (s := j) (by omega)
    have ht := ((rx_J hX).2.2 j (by omega)).2.2.2.2.2.1
    refine wp_eq (e58_1 ..) (wp_if (fun hc => ?_) (fun hc => ?_)) <;> rw [rx_SESS hX, io_le (by omega) (by omega)] at hc
    · omega
    · refine wp_eq (e58_2 ..) (wp_dr (rx_p0_11 hX) (wp_gd (by rw [aty_4194839]; decide) (wp_gd zj ?_)))
      dsimp only
      rw [io_nat (by omega)]
      refine wp_dr so (wp_gd rfl (wp_dr rfl (wp_gd rfl ?_)))
      dsimp only
      rw [rx_p5_0 hX]
      refine wp_cr (xc_isText (d := d) hX hm (by omega) hc1 hc8 (fun q hf => (rP_txt hr (by decide) q hf).1) ht (hsn j (by omega)).1.1 ⟨_, rfl, wp_asI0 ?_⟩)
      refine wp_if (fun q => ?_) (fun q => ?_) <;> rw [b2i_0] at q
      · rw [from_n q] at hf
        refine wp_eq (e58_4 ..) ?_
        rw [io_add_l]
        exact xl_sess hX hm hr hl hsn k m (j + 1) (by omega) hf
      · rw [from_y (Classical.not_not.mp q)] at hf
        rw [hf] at k
        refine wp_eq (e58_3 ..) (wp_dr (rx_p0_11 hX) (wp_gd (by rw [aty_4194839]; decide) (wp_gd zj ?_)))
        dsimp only
        rw [io_nat (by omega), so]
        exact wp_ret k
theorem xc_sess {T σ : z_St} {A : w_A} (hX : w_X T σ A) {P : w_P} (hm : x_msg σ P) (hr : z_rP (vI A 64) P) (hl : vN A 2 0 ≤ 16) (hsn : z_SN A) {d : Nat} {Q : z_St → Option z_V → Prop} (k : Q σ (some (.inr (.inr ((fn_sess A P).map fun s => (5, vN A 17 s)))))) : wp (zD (d + 3) 58 [.inr (.inr (some (0, 0))), .inr (.inr (some (3, 0)))] σ) Q :=
  wp_eq (c58 ..) (wp_eq (e58_0 ..) (xl_sess hX hm hr hl hsn k (vN A 2 0) 0 (by omega) (fn_first_from _ _)))
theorem msg_tw {σ : z_St} {P : w_P} {t n : Nat} {f : Nat → Int32} (hm : x_msg σ P) : x_msg (x_tw σ t n f) P := hm
/-- what a session is told by a message -/
theorem xc_snote {T σ : z_St} {A : w_A} (hX : w_X T σ A) {P : w_P} (hP : vP A = some P) (hr : z_rP (vI A 64) P) (hb : ∀ k, nb (vI A 64 k) = vI A 64 k) (hw : pW P = 0) {s p : Nat} (hs : s < vN A 2 0) (hl : vN A 2 0 ≤ 16) (hp : p < vN A 0 0) {d : Nat} {Q : z_St → Option z_V → Prop} (k : ∀ σ, w_X T σ (fn_note A P p s) → Q σ none) : wp (zD (d + 3) 60 [.inr (.inr (some (5, vN A 17 s))), .inr (.inr (some (9, p))), .inr (.inr (some (3, 0)))] σ) Q := by
  obtain ⟨hc1, hc8⟩ := rP_C hr
  have hln := rP_len hr
  have hho := rP_host hr hw
  have n1 := rP_taken hb hr (show fn_kind 264 = 1 by decide)
  have n2 := rP_taken hb hr (show fn_kind 296 = 1 by decide)
  refine wp_eq (c60 ..) (wp_eq (e60_0 ..) (wp_dr rfl (wp_gd rfl (wp_dr rfl (wp_gd rfl ?_)))))
  dsimp only
  rw [rx_p5_1 hX]
  refine wp_cv (xc_take_ (d := d) hX (rx_msg hX hP) hr (by decide) hho.1 fun f n hn hf => ⟨rfl, ?_⟩)
  subst hn
  have hX := wx_SHOST hX hs hl n1.1 hf
  generalize x_tw σ (5 + 3 * vN A 17 s) _ f = σ at hX
  refine wp_dr rfl (wp_gd rfl (wp_dr rfl (wp_gd rfl ?_)))
  dsimp only
  rw [rx_p5_2 hX]
  refine wp_cv (xc_take_ (d := d) hX (rx_msg hX (P := P) hP) hr (by decide) hho.2 fun f n hn hf => ⟨rfl, ?_⟩)
  subst hn
  have hX := wx_SREALM hX (s := s) hs hl n2.1 hf
  refine wp_dr rfl (wp_gd rfl (wp_cr ?_))
  refine xc_number (d := d) (code := 415) hX (rx_msg hX (P := P) hP) (by omega) hc1 hc8 (rP_num hr (by decide)) ?_
  refine ⟨_, rfl, wp_asJ0 ?_⟩
  refine wp_dr rfl (wp_gd rfl (wp_swX (wx_SCOUNT hX (s := s) hs hl _) fun σ hX => wp_dr rfl (wp_gd rfl (wp_dr rfl (wp_gd rfl ?_)))))
  dsimp only
  rw [((rx_F hX).1 p hp).2]
  exact wp_swX (wx_SPEER hX (s := s) hs hl _) fun σ hX => wp_ret (k σ hX)
theorem xc_free {T σ : z_St} {A : w_A} (hX : w_X T σ A) {a d : Nat} {Q : z_St → Option z_V → Prop} (k : Q σ (some (.inr (.inl (fn_free A a))))) : wp (zD (d + 1) 187 [.inr (.inr (some (10, a)))] σ) Q := by
  refine wp_eq (c187 ..) (wp_eq (e187_0 ..) (wp_ret ?_))
  rw [rx_ABAL hX, rx_ARES hX]
  exact k
theorem wx_GR0 {T σ : z_St} {A : w_A} (h : w_X T σ A) : w_X T (wR σ 0 20 0 none) (sN A 16 0 0) := by
  obtain ⟨hT, hA, hB, hC, hD, hE, hF, hG, hH, hI, hJ, hK, hL, hM, hN⟩ := h
  exact ⟨x_T_wR hT (z_isM_dec _ rfl), hA, hB, hC, hD, hE, hF, hG, hH, hI, hJ, hK, hL, hM, ⟨fun _ => rfl, fun s _ e => absurd (show (0 : Nat) = s + 1 from e) (by omega)⟩⟩
theorem wx_GRs {T σ : z_St} {A : w_A} (h : w_X T σ A) (s : Nat) : w_X T (wR σ 0 20 0 (some (5, vN A 17 s))) (sN A 16 0 (s + 1)) := by
  obtain ⟨hT, hA, hB, hC, hD, hE, hF, hG, hH, hI, hJ, hK, hL, hM, hN⟩ := h
  refine ⟨x_T_wR hT (z_isM_dec _ rfl), hA, hB, hC, hD, hE, hF, hG, hH, hI, hJ, hK, hL, hM, ⟨fun e => absurd (show s + 1 = 0 from e) (by omega), fun r _ e => ?_⟩⟩
  have e : s + 1 = r + 1 := e
  have e2 : r = s := by omega
  subst e2
  rfl
theorem x_GR99 {T σ : z_St} {A : w_A} (h : w_X T σ A) : w_X T σ (sN A 16 0 99) := by
  obtain ⟨hT, hA, hB, hC, hD, hE, hF, hG, hH, hI, hJ, hK, hL, hM, hN⟩ := h
  exact ⟨hT, hA, hB, hC, hD, hE, hF, hG, hH, hI, hJ, hK, hL, hM, ⟨fun e => absurd (show (99 : Nat) = 0 from e) (by decide), fun s hs e => absurd (show (99 : Nat) = s + 1 from e) (by omega)⟩⟩
theorem lg_ge (x y : Int64) : (0 ≤ lg_cmp x y) = ¬ (x < y) := by
  rw [← lg_lt]
  exact propext ⟨fun h => Int32.not_lt.mpr h, fun h => Int32.not_lt.mp h⟩
theorem lg_le (x y : Int64) : (lg_cmp x y ≤ 0) = ¬ (y < x) := by
  rw [← lg_gt]
  exact propext ⟨fun h => Int32.not_lt.mpr h, fun h => Int32.not_lt.mp h⟩
theorem xc_grantN {T σ : z_St} {A : w_A} (hX : w_X T σ A) {P : w_P} (hP : vP A = some P) (hr : z_rP (vI A 64) P) {s : Nat} (hnow : vN A 5 0 ≤ 200000) (hs : s < vN A 2 0) (hl : vN A 2 0 ≤ 16) (ha : ¬ vN A 13 s = 0) {d : Nat} {Q : z_St → Option z_V → Prop} (k : ∀ σ, w_X T σ (fn_grant A P s) → Q σ (some (.inl 2001))) : wp (zD (d + 4) 61 [.inr (.inr (some (0, 0))), .inr (.inr (some (5, vN A 17 s))), .inr (.inr (some (3, 0)))] σ) Q := by
  refine wp_eq (c61 ..) (wp_eq (e61_0 ..) (wp_cr (xc_units_ (d := d) hX (rx_msg hX hP) hr (by decide) fun σ hX hm => ⟨_, rfl, wp_asJ0 ?_⟩)))
  have key : ∀ w, w = (if fn_units (vI A 64) P 437 < 0 then 1000 else fn_units (vI A 64) P 437) → wp (E xP61 (zD (d + 3)) 3 [some (.inr (.inr (some (0, 0)))), some (.inr (.inr (some (5, vN A 17 s)))), none, none, none] [.inr (.inl w), .inr (.inr (some (5, vN A 17 s)))] σ) Q := by
    intro w hw
    have ra : ∀ {σ : z_St} {B : w_A}, w_X T σ B → vN B = vN A → gR σ 5 3 (vN A 17 s) = some (10, vN A 13 s - 1) := fun {σ B} hB e => by
      have := rx_SACC hB (s := s) (by rw [e]; exact hs)
      rw [e, if_neg ha] at this
      exact this
    refine wp_eq (e61_3 ..) (wp_dr rfl (wp_gd rfl (wp_cv (wp_eq (c237 ..) (wp_eq (e237_0 ..) (wp_dr (ra hX rfl) (wp_gd rfl (wp_cr (xc_free hX ⟨_, rfl, wp_asJ0 ?_⟩)))))))))
    refine wp_swX (wx_SGRANT hX hs hl _) fun σ hX => wp_dr (ra hX rfl) (wp_gd rfl (wp_dr (ra hX rfl) (wp_gd rfl ?_)))
    dsimp only
    rw [rx_ARES hX, show gJ σ 5 4 (vN A 17 s) = _ from rx_SGRANT hX (s := s) hs]
    refine wp_swX (wx_ARES hX _ _) fun σ hX => wp_ret ⟨rfl, ?_⟩
    refine wp_dr rfl (wp_gd rfl ?_)
    rw [rx_NOW hX, io_add_l]
    refine wp_swX (wx_SEND hX (s := s) hs hl _) fun σ hX => wp_swX (wx_GRs hX s) fun σ hX => wp_ret (k σ (X_cv hX ?_))
    unfold fn_grant
    rw [← hw]
    simp only [ev_rd, ev_st, aEl, z_w, z_cat, Nat.reduceMod, Nat.reduceDiv, Nat.reduceLeDiff, Nat.reduceLT, Nat.reduceAdd, Nat.reduceMul, Nat.reduceSub, Nat.reduceEqDiff, Int32.reduceLT, Int32.reduceLE, Int32.reduceAdd, Int32.reduceSub, Int32.reduceMul, true_and, and_true, false_and, and_false, true_or, or_true, false_or, or_false, not_true_eq_false, not_false_eq_true, if_true, if_false, reduceIte, ne_eq, and_self, or_self, reduceCtorEq, Option.some.injEq, Prod.mk.injEq]
  refine wp_if (fun h => ?_) (fun h => ?_) <;> rw [lg_ge] at h
  · exact wp_eq (e61_2 ..) (key _ (by rw [if_neg h]))
  · exact wp_eq (e61_1 ..) (key _ (by rw [if_pos (Classical.not_not.mp h)]))
