/-! PART 84b (src 84b.xkeep.src): the component's kept answers -/
set_option maxHeartbeats 400000
theorem rot_lt2 {n s k M : Nat} {r : Nat → Nat} (hn : n ≤ M) (hs : s < n) (h : ∀ k, k < M → r k < M) (hk : k < M) : fn_rot n s r k < M := by
  unfold fn_rot
  split
  · exact h _ (by omega)
  · split
    · exact h _ (by omega)
    · exact h _ hk
theorem X_drop1 {T σ : z_St} {A : w_A} (h : w_X T σ A) {n : Nat} (hn : vN A 4 0 = n) (hs : 0 < n) (hl : n ≤ 32) {f : Nat → Option z_Ad} (hf : ∀ k, k < 32 → f k = some (7, fn_rot n 0 (vN A 18) k)) : w_X T (rR (wI σ 0 16 0 (Int32.ofNat (n - 1))) 6292505 0 f) (fn_drop1 A) := by
  obtain ⟨hT, hA, hB, hC, hD, hE, hF, hG, hH, hI, hJ, hK, hL, hM, hN⟩ := h
  subst hn
  refine ⟨x_T_rR (x_T_wI hT (z_isM_dec _ rfl)) (z_isM_dec _ rfl), hA, hB, ?_, hD, hE, hF, hG, hH, hI, hJ, ⟨fun k hk => ⟨?_, ?_, fun r hr e => ?_⟩, fun r hr => ?_⟩, hL, hM, hN⟩
  · exact ⟨hC.1, hC.2.1, hC.2.2.1, hC.2.2.2.1, rfl, hC.2.2.2.2.2⟩
  · show gR (rR _ 6292505 0 f) 6292505 0 k = _
    rw [hR_rR, if_pos ⟨rfl, rfl⟩]
    exact hf k hk
  · exact rot_lt2 hl hs (fun k hk => (hK.1 k hk).2.1) hk
  · exact rot_inj hl hs (fun i j hi hj e => (hK.1 j hj).2.2 i hi e) hr hk e
  · have hr' : r < vN A 4 0 - 1 := hr
    have q := hK.2 (r + 1) (by omega)
    have eo : ∀ {α : Type} (g : Nat → α), fn_out (vN A 4 0) 0 g r = g (r + 1) := fun g => if_pos (by omega)
    have er : fn_rot (vN A 4 0) 0 (vN A 18) r = vN A 18 (r + 1) := if_pos (by omega)
    show gI σ 7 1 (fn_rot (vN A 4 0) 0 (vN A 18) r) = fn_out (vN A 4 0) 0 (vI A 18) r ∧ gI σ 7 2 (fn_rot (vN A 4 0) 0 (vN A 18) r) = Int32.ofNat (fn_out (vN A 4 0) 0 (vN A 15) r) ∧ x_txt σ (244 + fn_rot (vN A 4 0) 0 (vN A 18) r) (fn_out (vN A 4 0) 0 (vL A 11) r) ∧ gI σ 7 4 (fn_rot (vN A 4 0) 0 (vN A 18) r) = Int32.ofNat (fn_out (vN A 4 0) 0 (vL A 10) r).length ∧ ∀ j, (h : j < (fn_out (vN A 4 0) 0 (vL A 10) r).length) → ¬ (1 ≤ j ∧ j ≤ 3) → gI σ 72361361 (fn_rot (vN A 4 0) 0 (vN A 18) r) j = (fn_out (vN A 4 0) 0 (vL A 10) r)[j]
    simp only [er, eo]
    exact q
theorem rx_kobj {T σ : z_St} {A : w_A} (h : w_X T σ A) {s : Nat} (hs : s < 32) : gR σ 6292505 0 s = some (7, vN A 18 s) := ((rx_K h).1 s hs).1
theorem rx_p0_15' {T σ : z_St} {A : w_A} (h : w_X T σ A) (x : Int32) (f : Nat → Option z_Ad) : gR (rR (wI σ 0 16 0 x) 6292505 0 f) 0 15 0 = some (6292505, 0) := by
  have := rx_p0_15 h
  exact this
theorem xl_drop1 {T σ : z_St} {A : w_A} (hX : w_X T σ A) {d n : Nat} (hn : vN A 4 0 = n) (hs : 0 < n) (hl : n ≤ 32) {Q : z_St → Option z_V → Prop} (k : ∀ σ, w_X T σ (fn_drop1 A) → Q σ none) : ∀ (m j : Nat) (f : Nat → Option z_Ad), j + m = n - 1 → (∀ i, i < 32 → f i = some (7, fn_sh j 0 (vN A 18) i)) →
    wp (E xP50 (zD d) 1 [some (.inr (.inr (some (0, 0)))), some (.inr (.inr (some (7, vN A 18 0)))), some (.inl (Int32.ofNat j))] [] (rR (wI σ 0 16 0 (Int32.ofNat (n - 1))) 6292505 0 f)) Q
  | 0, j, f, hj, hf => by
    have e12 : gI (rR (wI σ 0 16 0 (Int32.ofNat (n - 1))) 6292505 0 f) 0 16 0 = Int32.ofNat (n - 1) := rfl
    refine wp_eq (e50_1 ..) (wp_if (fun hc => ?_) (fun hc => ?_)) <;> rw [e12, io_le (by omega) (by omega)] at hc
    · refine wp_eq (e50_3 ..) (wp_dr rfl (wp_dr (rx_p0_15' hX _ _) (wp_gd (by rw [aty_6292505]; exact ⟨by decide, by decide, by show (7 : Nat) = aEl 6292505; decide⟩) (wp_gd ?_ ?_))))
      · rw [alen_6292505, e12]; exact zin_io (by omega) (by omega)
      · rw [e12, io_nat (by omega), wR_rR]
        refine wp_sw (wp_ret (k _ (X_drop1 hX hn hs hl fun i hi => ?_)))
        show va_up f (n - 1) _ i = _
        unfold va_up
        by_cases e : i = n - 1
        · rw [if_pos e]
          unfold fn_rot
          rw [if_neg (by omega), if_pos (by omega)]
        · rw [if_neg e, hf i hi]
          unfold fn_rot fn_sh
          by_cases h : 0 ≤ i ∧ i < j
          · rw [if_pos h, if_pos (by omega)]
          · rw [if_neg h, if_neg (by omega), if_neg (by omega)]
    · omega
  | m + 1, j, f, hj, hf => by
    have e12 : gI (rR (wI σ 0 16 0 (Int32.ofNat (n - 1))) 6292505 0 f) 0 16 0 = Int32.ofNat (n - 1) := rfl
    have ef : ∀ i, gR (rR (wI σ 0 16 0 (Int32.ofNat (n - 1))) 6292505 0 f) 6292505 0 i = f i := fun i => by rw [hR_rR, if_pos ⟨rfl, rfl⟩]
    refine wp_eq (e50_1 ..) (wp_if (fun hc => ?_) (fun hc => ?_)) <;> rw [e12, io_le (by omega) (by omega)] at hc
    · omega
    · refine wp_eq (e50_2 ..) (wp_dr (rx_p0_15' hX _ _) (wp_gd (by rw [aty_6292505]; decide) (wp_gd ?_ ?_)))
      · rw [alen_6292505, io_add_l]; exact zin_io (by omega) (by omega)
      · rw [io_add_l, io_nat (by omega)]
        refine wp_dr (by rw [ef, hf (j + 1) (by omega)]) (wp_dr (rx_p0_15' hX _ _) (wp_gd (by rw [aty_6292505]; exact ⟨by decide, by decide, by show (7 : Nat) = aEl 6292505; decide⟩) (wp_gd ?_ ?_)))
        · rw [alen_6292505]; exact zin_io (by omega) (by omega)
        · rw [io_nat (by omega), wR_rR]
          refine wp_sw (xl_drop1 hX hn hs hl k m (j + 1) _ (by omega) fun i hi => ?_)
          unfold va_up
          by_cases e : i = j
          · subst e
            rw [if_pos rfl]
            unfold fn_sh
            rw [if_neg (by omega), if_pos (by omega)]
          · rw [if_neg e, hf i hi]
            unfold fn_sh
            by_cases h : 0 ≤ i ∧ i < j
            · rw [if_pos h, if_pos (by omega)]
            · rw [if_neg h, if_neg (by omega)]
theorem xc_drop1 {T σ : z_St} {A : w_A} (hX : w_X T σ A) {d : Nat} (hs : 0 < vN A 4 0) (hl : vN A 4 0 ≤ 32) {Q : z_St → Option z_V → Prop} (k : ∀ σ, w_X T σ (fn_drop1 A) → Q σ none) : wp (zD (d + 1) 50 [.inr (.inr (some (0, 0)))] σ) Q := by
  refine wp_eq (c50 ..) (wp_eq (e50_0 ..) (wp_dr (rx_p0_15 hX) (wp_gd (by rw [aty_6292505]; decide) (wp_gd ?_ (wp_sw ?_)))))
  · rw [alen_6292505]; exact zin_io (k := 0) (by decide) (by decide)
  dsimp only
  rw [show (0 : Int32).toNatClampNeg = 0 from rfl, rx_kobj hX (by decide), rx_KEPTS hX, show (Int32.ofNat (vN A 4 0) - 1 : Int32) = Int32.ofNat (vN A 4 0 - 1) from by rw [show (1 : Int32) = Int32.ofNat 1 from rfl, io_sub (by omega)]]
  rw [← rR_id (wI σ 0 16 0 (Int32.ofNat (vN A 4 0 - 1))) 6292505 0]
  refine xl_drop1 hX rfl hs hl k (vN A 4 0 - 1) 0 _ (by omega) fun i hi => ?_
  show gR σ 6292505 0 i = _
  rw [rx_kobj hX hi]
  unfold fn_sh
  rw [if_neg (by omega)]
theorem drop1_N (A : w_A) {v : Nat} (h1 : v ≠ 4) (h2 : v ≠ 15) (h3 : v ≠ 18) (i : Nat) : vN (fn_drop1 A) v i = vN A v i := by
  unfold fn_drop1
  dsimp only
  rw [vN_sN, if_neg (fun g => h1 g.1), vN_tN, if_neg h3, vN_tN, if_neg h2]
  rfl
theorem drop1_KEPTS (A : w_A) : vN (fn_drop1 A) 4 0 = vN A 4 0 - 1 := rfl
theorem drop1_I (A : w_A) {v : Nat} (h1 : v ≠ 18) (i : Nat) : vI (fn_drop1 A) v i = vI A v i := by
  unfold fn_drop1
  show vI (tI _ 18 _) v i = _
  rw [vI_tI, if_neg h1]
  rfl
theorem drop1_J (A : w_A) (v i : Nat) : vJ (fn_drop1 A) v i = vJ A v i := rfl
theorem drop1_L (A : w_A) {v : Nat} (h1 : v ≠ 10) (h2 : v ≠ 11) (i : Nat) : vL (fn_drop1 A) v i = vL A v i := by
  unfold fn_drop1
  show vL (tL (tL A 10 _) 11 _) v i = _
  rw [vL_tL, if_neg h2, vL_tL, if_neg h1]
theorem drop1_P (A : w_A) : vP (fn_drop1 A) = vP A := rfl
/-- times of kept answers lie behind -/
def z_KT (A : w_A) : Prop := ∀ k, k < vN A 4 0 → vN A 15 k ≤ vN A 5 0
theorem drop1_KT {A : w_A} (h : z_KT A) : z_KT (fn_drop1 A) := by
  intro k hk
  have hk' : k < vN A 4 0 - 1 := hk
  show fn_out (vN A 4 0) 0 (vN A 15) k ≤ vN A 5 0
  unfold fn_out
  rw [if_pos (by omega)]
  exact h (k + 1) (by omega)
theorem drop1_B {n : Nat} {A : w_A} (h : z_B n A) : z_B n (fn_drop1 A) := by
  obtain ⟨b1, b2, b3, b4, b5, b6, b7, b8, b9, b10, b11, b12, b13⟩ := h
  refine ⟨⟨b1.1, b1.2.1, b1.2.2.1, b1.2.2.2.1, ?_, b1.2.2.2.2.2⟩, b2, b3, b4, b5, b6, b7, b8, b9, b10, b11, fun s hs => ?_, b13⟩
  · have := b1.2.2.2.2.1
    show vN A 4 0 - 1 ≤ 32
    omega
  · have hs' : s < vN A 4 0 - 1 := hs
    show z_nm (fn_out (vN A 4 0) 0 (vL A 11) s) ∧ (fn_out (vN A 4 0) 0 (vL A 10) s).length ≤ 300 ∧ 20 ≤ (fn_out (vN A 4 0) 0 (vL A 10) s).length ∧ z_by (fn_out (vN A 4 0) 0 (vL A 10) s)
    unfold fn_out
    rw [if_pos (show 0 ≤ s ∧ s + 1 < vN A 4 0 by omega), if_pos (show 0 ≤ s ∧ s + 1 < vN A 4 0 by omega)]
    exact b12 (s + 1) (by omega)
theorem xl_forget {T : z_St} {d : Nat} {Q : z_St → Option z_V → Prop} : ∀ (f n : Nat) (A : w_A) (σ : z_St), w_X T σ A → z_B n A → z_KT A → vN A 4 0 ≤ f → (∀ σ, w_X T σ (fn_stl A f) → Q σ none) →
    wp (E xP49 (zD (d + 1)) 0 [some (.inr (.inr (some (0, 0))))] [] σ) Q
  | 0, n, A, σ, hX, hB, hT, hf, k => by
    refine wp_eq (e49_0 ..) (wp_if (fun hc => ?_) (fun hc => ?_)) <;> rw [rx_KEPTS hX, io_le_l (by omega) (by decide)] at hc
    · exact wp_eq (e49_3 ..) (wp_ret (k σ hX))
    · have hc : ¬ vN A 4 0 ≤ 0 := hc
      omega
  | f + 1, n, A, σ, hX, hB, hT, hf, k => by
    have hb := hB.1
    rw [fn_stl] at k
    refine wp_eq (e49_0 ..) (wp_if (fun hc => ?_) (fun hc => ?_)) <;> rw [rx_KEPTS hX, io_le_l (by omega) (by decide)] at hc
    · have hc : vN A 4 0 ≤ 0 := hc
      rw [if_neg (by omega)] at k
      exact wp_eq (e49_3 ..) (wp_ret (k σ hX))
    · have hc : ¬ vN A 4 0 ≤ 0 := hc
      have ht := hT 0 (by omega)
      refine wp_eq (e49_1 ..) (wp_dr (rx_p0_15 hX) (wp_gd (by rw [aty_6292505]; decide) (wp_gd ?_ ?_)))
      · rw [alen_6292505]; exact zin_io (k := 0) (by decide) (by decide)
      dsimp only
      rw [show (0 : Int32).toNatClampNeg = 0 from rfl]
      refine wp_dr (rx_kobj hX (by decide)) (wp_gd rfl ?_)
      dsimp only
      rw [rx_NOW hX, ((rx_K hX).2 0 (by omega)).2.1, io_sub ht]
      refine wp_if (fun h => ?_) (fun h => ?_) <;> rw [io_lt_l (by omega) (by decide)] at h
      · have h : vN A 5 0 - vN A 15 0 < 240 := h
        rw [if_neg (by omega)] at k
        exact wp_eq (e49_3 ..) (wp_ret (k σ hX))
      · have h : ¬ vN A 5 0 - vN A 15 0 < 240 := h
        rw [if_pos (by omega)] at k
        refine wp_eq (e49_2 ..) (wp_cv (xc_drop1 (d := d) hX (by omega) (by omega) fun σ hX => ⟨rfl, ?_⟩))
        exact xl_forget f n (fn_drop1 A) σ hX (drop1_B hB) (drop1_KT hT) (by rw [drop1_KEPTS]; omega) k
theorem xc_stale {T σ : z_St} {A : w_A} (hX : w_X T σ A) {n : Nat} (hB : z_B n A) (hT : z_KT A) {d : Nat} {Q : z_St → Option z_V → Prop} (k : ∀ σ, w_X T σ (fn_stale A) → Q σ none) : wp (zD (d + 2) 49 [.inr (.inr (some (0, 0)))] σ) Q :=
  wp_eq (c49 ..) (xl_forget (d := d) (vN A 4 0) n A σ hX hB hT (Nat.le_refl _) k)
theorem stl_I {v : Nat} (h1 : v ≠ 18) (i : Nat) : ∀ (f : Nat) (A : w_A), vI (fn_stl A f) v i = vI A v i
  | 0, _ => rfl
  | f + 1, A => by
    rw [fn_stl]
    split
    · exact (stl_I h1 i f _).trans (drop1_I A h1 i)
    · rfl
theorem stl_N {v : Nat} (h1 : v ≠ 4) (h2 : v ≠ 15) (h3 : v ≠ 18) (i : Nat) : ∀ (f : Nat) (A : w_A), vN (fn_stl A f) v i = vN A v i
  | 0, _ => rfl
  | f + 1, A => by
    rw [fn_stl]
    split
    · exact (stl_N h1 h2 h3 i f _).trans (drop1_N A h1 h2 h3 i)
    · rfl
theorem stl_J (v i : Nat) : ∀ (f : Nat) (A : w_A), vJ (fn_stl A f) v i = vJ A v i
  | 0, _ => rfl
  | f + 1, A => by
    rw [fn_stl]
    split
    · exact (stl_J v i f _).trans (drop1_J A v i)
    · rfl
theorem stl_L {v : Nat} (h1 : v ≠ 10) (h2 : v ≠ 11) (i : Nat) : ∀ (f : Nat) (A : w_A), vL (fn_stl A f) v i = vL A v i
  | 0, _ => rfl
  | f + 1, A => by
    rw [fn_stl]
    split
    · exact (stl_L h1 h2 i f _).trans (drop1_L A h1 h2 i)
    · rfl
theorem stl_P : ∀ (f : Nat) (A : w_A), vP (fn_stl A f) = vP A
  | 0, _ => rfl
  | f + 1, A => by
    rw [fn_stl]
    split
    · exact (stl_P f _).trans (drop1_P A)
    · rfl
theorem stl_B {n : Nat} : ∀ (f : Nat) (A : w_A), z_B n A → z_B n (fn_stl A f)
  | 0, _, h => h
  | f + 1, A, h => by
    rw [fn_stl]
    split
    · exact stl_B f _ (drop1_B h)
    · exact h
theorem stl_KT : ∀ (f : Nat) (A : w_A), z_KT A → z_KT (fn_stl A f)
  | 0, _, h => h
  | f + 1, A, h => by
    rw [fn_stl]
    split
    · exact stl_KT f _ (drop1_KT h)
    · exact h
/-- the kept answer to a message -/
theorem xl_kept {T σ : z_St} {A : w_A} (hX : w_X T σ A) {P : w_P} (hP : vP A = some P) (hr : z_rP (vI A 64) P) {n : Nat} (hB : z_B n A) {d : Nat} {Q : z_St → Option z_V → Prop} (k : Q σ (some (.inr (.inr ((fn_kept A P).map fun k => (7, vN A 18 k)))))) : ∀ (m j : Nat), j + m = vN A 4 0 → fn_kept A P = fn_from (fun k => decide (vI A 18 k = pE P) && fn_isT (vI A 64) P 264 (vL A 11 k)) m j →
    wp (E xP51 (zD (d + 2)) 1 [some (.inr (.inr (some (0, 0)))), some (.inr (.inr (some (3, 0)))), some (.inl (Int32.ofNat j))] [] σ) Q
  | 0, j, hj, hf => by
    have hb := hB.1
    rw [hf] at k
    refine wp_eq (e51_1 ..) (wp_if (fun hc => ?_) (fun hc => ?_)) <;> rw [rx_KEPTS hX, io_le (by omega) (by omega)] at hc
    · exact wp_eq (e51_6 ..) (wp_ret k)
    · omega
  | m + 1, j, hj, hf => by
    have hb := hB.1
    have hm := rx_msg hX hP
    have hl := rP_len hr
    obtain ⟨hc1, hc8⟩ := rP_C hr
    have zj : zin (Int32.ofNat j) (aLen 6292505) := by rw [alen_6292505]; exact zin_io (by omega) (by decide)
    have ko := rx_kobj hX (s := j) (by omega)
    have hK := (rx_K hX).2 j (by omega)
    have hnm := (hB.2.2.2.2.2.2.2.2.2.2.2.1 j (by omega)).1.1
    have next : ¬ (decide (vI A 18 j = pE P) && fn_isT (vI A 64) P 264 (vL A 11 j)) = true → wp (E xP51 (zD (d + 2)) 5 [some (.inr (.inr (some (0, 0)))), some (.inr (.inr (some (3, 0)))), some (.inl (Int32.ofNat j))] [] σ) Q := by
      intro h
      rw [from_n h] at hf
      refine wp_eq (e51_5 ..) ?_
      rw [io_add_l]
      exact xl_kept hX hP hr hB k m (j + 1) (by omega) hf
    refine wp_eq (e51_1 ..) (wp_if (fun hc => ?_) (fun hc => ?_)) <;> rw [rx_KEPTS hX, io_le (by omega) (by omega)] at hc
    · omega
    · refine wp_eq (e51_2 ..) (wp_dr (rx_p0_15 hX) (wp_gd (by rw [aty_6292505]; decide) (wp_gd zj ?_)))
      dsimp only
      rw [io_nat (by omega)]
      refine wp_dr ko (wp_gd rfl (wp_dr rfl (wp_gd rfl ?_)))
      dsimp only
      rw [hK.1, hm.2.2.2.2.2.1]
      refine wp_if (fun h1 => ?_) (fun h1 => ?_)
      rotate_left
      · exact next (by rw [decide_eq_false h1, Bool.false_and]; decide)
      refine wp_eq (e51_3 ..) (wp_dr (rx_p0_15 hX) (wp_gd (by rw [aty_6292505]; decide) (wp_gd zj ?_)))
      dsimp only
      rw [io_nat (by omega)]
      refine wp_dr ko (wp_gd rfl (wp_dr rfl (wp_gd rfl ?_)))
      dsimp only
      rw [rx_p7_0 hX]
      refine wp_cr (xc_isText (d := d) hX hm (by omega) hc1 hc8 (fun q hf => (rP_txt hr (by decide) q hf).1) hK.2.2.1 hnm ⟨_, rfl, wp_asI0 ?_⟩)
      refine wp_if (fun q => ?_) (fun q => ?_) <;> rw [b2i_0] at q
      · exact next (by rw [decide_eq_true h1, Bool.true_and]; exact q)
      · rw [from_y (by rw [decide_eq_true h1, Bool.true_and]; exact Classical.not_not.mp q)] at hf
        rw [hf] at k
        refine wp_eq (e51_4 ..) (wp_dr (rx_p0_15 hX) (wp_gd (by rw [aty_6292505]; decide) (wp_gd zj ?_)))
        dsimp only
        rw [io_nat (by omega), ko]
        exact wp_ret k
theorem xc_keptFor {T σ : z_St} {A : w_A} (hX : w_X T σ A) {P : w_P} (hP : vP A = some P) (hr : z_rP (vI A 64) P) {n : Nat} (hB : z_B n A) (hT : z_KT A) {d : Nat} {Q : z_St → Option z_V → Prop} (k : ∀ σ, w_X T σ (fn_stale A) → Q σ (some (.inr (.inr ((fn_kept (fn_stale A) P).map fun k => (7, vN (fn_stale A) 18 k)))))) : wp (zD (d + 3) 51 [.inr (.inr (some (0, 0))), .inr (.inr (some (3, 0)))] σ) Q := by
  refine wp_eq (c51 ..) (wp_eq (e51_0 ..) (wp_cv (xc_stale (d := d) hX hB hT fun σ hX => ⟨rfl, ?_⟩)))
  have e : vI (fn_stale A) 64 = vI A 64 := funext fun i => stl_I (by decide) i _ _
  refine xl_kept (d := d) hX ((stl_P _ _).trans hP) (by rw [e]; exact hr) (stl_B _ _ hB) (k σ hX) (vN (fn_stale A) 4 0) 0 (by omega) (fn_first_from _ _)
/-! an answer is kept -/
theorem io_bv (x : Int32) : Int32.ofNat x.toBitVec.toNat = x := by
  apply Int32.toBitVec_inj.mp
  show BitVec.ofNat 32 _ = _
  rw [BitVec.ofNat_toNat, BitVec.setWidth_eq]
/-- one more row, as it is -/
theorem X_KEPTSi {T σ : z_St} {A : w_A} (h : w_X T σ A) {k : Nat} (hk : vN A 4 0 = k) (hl : k < 32) : ∃ (x : Int32) (y : Nat) (l m : List Int32), w_X T (wI σ 0 16 0 (Int32.ofNat (k + 1))) (sN (sN (sI (sL (sL A 11 k l) 10 k m) 18 k x) 15 k y) 4 0 (k + 1)) := by
  refine ⟨gI σ 7 1 (vN A 18 k), (gI σ 7 2 (vN A 18 k)).toBitVec.toNat, (List.range (gI σ 1 1 (244 + vN A 18 k)).toBitVec.toNat).map (gI σ 80741649 (244 + vN A 18 k)), (List.range (gI σ 7 4 (vN A 18 k)).toBitVec.toNat).map (gI σ 72361361 (vN A 18 k)), ?_⟩
  obtain ⟨hT, hA, hB, hC, hD, hE, hF, hG, hH, hI, hJ, hK, hL, hM, hN⟩ := h
  refine ⟨x_T_wI hT (z_isM_dec _ rfl), hA, ?_, ⟨hC.1, hC.2.1, hC.2.2.1, hC.2.2.2.1, rfl, hC.2.2.2.2.2⟩, hD, hE, hF, hG, hH, hI, hJ, ⟨hK.1, fun r hr => ?_⟩, hL, hM, hN⟩
  · exact hB
  · have hr' : r < k + 1 := hr
    simp only [ev_rd, ev_st, aEl, z_w, z_cat, Nat.reduceMod, Nat.reduceDiv, Nat.reduceLeDiff, Nat.reduceLT, Nat.reduceAdd, Nat.reduceMul, Nat.reduceSub, Nat.reduceEqDiff, Int32.reduceLT, Int32.reduceLE, Int32.reduceAdd, Int32.reduceSub, Int32.reduceMul, true_and, and_true, false_and, and_false, true_or, or_true, false_or, or_false, not_true_eq_false, not_false_eq_true, if_true, if_false, reduceIte, ne_eq, and_self, or_self, reduceCtorEq, Option.some.injEq, Prod.mk.injEq, vI_sI, vN_sN, vL_sL]
    by_cases e : r = k
    · subst e
      simp only [ev_rd, ev_st, aEl, z_w, z_cat, Nat.reduceMod, Nat.reduceDiv, Nat.reduceLeDiff, Nat.reduceLT, Nat.reduceAdd, Nat.reduceMul, Nat.reduceSub, Nat.reduceEqDiff, Int32.reduceLT, Int32.reduceLE, Int32.reduceAdd, Int32.reduceSub, Int32.reduceMul, true_and, and_true, false_and, and_false, true_or, or_true, false_or, or_false, not_true_eq_false, not_false_eq_true, if_true, if_false, reduceIte, ne_eq, and_self, or_self, reduceCtorEq, Option.some.injEq, Prod.mk.injEq]
      refine ⟨rfl, (io_bv _).symm, ⟨?_, fun j hj => ?_⟩, ?_, fun j hj _ => ?_⟩
      · show gI σ 1 1 _ = _
        rw [List.length_map, List.length_range, io_bv]
      · rw [List.getElem_map, List.getElem_range]
        rfl
      · show gI σ 7 4 _ = _
        rw [List.length_map, List.length_range, io_bv]
      · rw [List.getElem_map, List.getElem_range]
        rfl
    · simp only [e, ev_rd, ev_st, aEl, z_w, z_cat, Nat.reduceMod, Nat.reduceDiv, Nat.reduceLeDiff, Nat.reduceLT, Nat.reduceAdd, Nat.reduceMul, Nat.reduceSub, Nat.reduceEqDiff, Int32.reduceLT, Int32.reduceLE, Int32.reduceAdd, Int32.reduceSub, Int32.reduceMul, true_and, and_true, false_and, and_false, true_or, or_true, false_or, or_false, not_true_eq_false, not_false_eq_true, if_true, if_false, reduceIte, ne_eq, and_self, or_self, reduceCtorEq, Option.some.injEq, Prod.mk.injEq]
      exact hK.2 r (by omega)
theorem wx_KEND {T σ : z_St} {A : w_A} (h : w_X T σ A) {s : Nat} (hs : s < vN A 4 0) (hl : vN A 4 0 ≤ 32) (x : Int32) : w_X T (wI σ 7 1 (vN A 18 s) x) (sI A 18 s x) := by
  obtain ⟨hT, hA, hB, hC, hD, hE, hF, hG, hH, hI, hJ, hK, hL, hM, hN⟩ := h
  refine ⟨x_T_wI hT (z_isM_dec _ rfl), hA, hB, hC, hD, hE, hF, hG, hH, hI, hJ, ⟨hK.1, fun r hr => ?_⟩, hL, hM, hN⟩
  have hr' : r < vN A 4 0 := hr
  obtain ⟨h1, h2, h3, h4, h5⟩ := hK.2 r hr'
  refine ⟨?_, h2, h3, h4, h5⟩
  show gI (wI σ 7 1 (vN A 18 s) x) 7 1 (vN A 18 r) = vI (sI A 18 s x) 18 r
  rw [gI_wI, vI_sI]
  by_cases e : r = s
  · subst e
    rw [if_pos (⟨rfl, rfl, rfl⟩ : _ ∧ _ ∧ _), if_pos ⟨rfl, rfl⟩]
  · rw [if_neg (fun g => e ((hK.1 s (by omega)).2.2 r (by omega) g.2.2)), if_neg (fun g => e g.2)]
    exact h1
theorem wx_KTIME {T σ : z_St} {A : w_A} (h : w_X T σ A) {s : Nat} (hs : s < vN A 4 0) (hl : vN A 4 0 ≤ 32) (x : Nat) : w_X T (wI σ 7 2 (vN A 18 s) (Int32.ofNat x)) (sN A 15 s x) := by
  obtain ⟨hT, hA, hB, hC, hD, hE, hF, hG, hH, hI, hJ, hK, hL, hM, hN⟩ := h
  refine ⟨x_T_wI hT (z_isM_dec _ rfl), hA, hB, hC, hD, hE, hF, hG, hH, hI, hJ, ⟨hK.1, fun r hr => ?_⟩, hL, hM, hN⟩
  have hr' : r < vN A 4 0 := hr
  obtain ⟨h1, h2, h3, h4, h5⟩ := hK.2 r hr'
  refine ⟨h1, ?_, h3, h4, h5⟩
  show gI (wI σ 7 2 (vN A 18 s) (Int32.ofNat x)) 7 2 (vN A 18 r) = Int32.ofNat (vN (sN A 15 s x) 15 r)
  rw [gI_wI, vN_sN]
  by_cases e : r = s
  · subst e
    rw [if_pos (⟨rfl, rfl, rfl⟩ : _ ∧ _ ∧ _), if_pos ⟨rfl, rfl⟩]
  · rw [if_neg (fun g => e ((hK.1 s (by omega)).2.2 r (by omega) g.2.2)), if_neg (fun g => e g.2)]
    exact h2
theorem wx_KHOST {T σ : z_St} {A : w_A} (h : w_X T σ A) {s : Nat} (hs : s < vN A 4 0) (hl : vN A 4 0 ≤ 32) (hl2 : vN A 2 0 ≤ 16) {m : List Int32} {f : Nat → Int32} (hf : ∀ k, (h : k < m.length) → f k = m[k]) : w_X T (x_tw σ (244 + vN A 18 s) m.length f) (sL A 11 s m) := by
  obtain ⟨hT, hA, hB, hC, hD, hE, hF, hG, hH, hI, hJ, hK, hL, hM, hN⟩ := h
  have ho := (hK.1 s (by omega)).2.1
  refine ⟨x_T_rI (x_T_wI hT (z_isM_dec _ rfl)) (z_isM_dec _ rfl), tw_A (by omega) (by omega) hA, hB, hC, hD, hE, hF, tw_G (by omega) (by omega) hG, hH, hI, ⟨hJ.1, ⟨fun t ht => ?_, hJ.2.1.2⟩, fun r hr => ?_⟩, ⟨hK.1, fun r hr => ?_⟩, hL, hM, hN⟩
  · obtain ⟨n, hn, g⟩ := hJ.2.1.1 t ht
    refine ⟨n, hn, ?_⟩
    show gI (wI σ 1 1 _ _) 1 1 (4 + t) = _
    rw [gI_wI, if_neg (fun g => by have := g.2.2; omega)]
    exact g
  · have hr' : r < vN A 2 0 := hr
    obtain ⟨h1, h2, h3, h4, h5, h6, h7, h8⟩ := hJ.2.2 r hr'
    have ho2 := (hJ.1 r (by omega)).2.1
    have n1 : ¬ 4 + 3 * vN A 17 r = 244 + vN A 18 s := by omega
    have n2 : ¬ 5 + 3 * vN A 17 r = 244 + vN A 18 s := by omega
    have n3 : ¬ 6 + 3 * vN A 17 r = 244 + vN A 18 s := by omega
    exact ⟨h1, h2, h3, h4, h5, tw_ne n1 h6, tw_ne n2 h7, tw_ne n3 h8⟩
  · have hr' : r < vN A 4 0 := hr
    obtain ⟨h1, h2, h3, h4, h5⟩ := hK.2 r hr'
    refine ⟨h1, h2, ?_, h4, h5⟩
    show x_txt (x_tw σ (244 + vN A 18 s) m.length f) (244 + vN A 18 r) (vL (sL A 11 s m) 11 r)
    rw [vL_sL]
    by_cases e : r = s
    · subst e
      rw [if_pos ⟨rfl, rfl⟩]
      exact tw_eq hf
    · rw [if_neg (fun g => e g.2)]
      have ne : ¬ vN A 18 r = vN A 18 s := fun g => e ((hK.1 s (by omega)).2.2 r (by omega) g)
      exact tw_ne (by omega) h3
theorem wx_KCELLS {T σ : z_St} {A : w_A} (h : w_X T σ A) {s : Nat} (hs : s < vN A 4 0) (hl : vN A 4 0 ≤ 32) {m : List Int32} {f : Nat → Int32} (hf : ∀ k, (h : k < m.length) → ¬ (1 ≤ k ∧ k ≤ 3) → f k = m[k]) : w_X T (rI (wI σ 7 4 (vN A 18 s) (Int32.ofNat m.length)) 72361361 (vN A 18 s) f) (sL A 10 s m) := by
  obtain ⟨hT, hA, hB, hC, hD, hE, hF, hG, hH, hI, hJ, hK, hL, hM, hN⟩ := h
  refine ⟨x_T_rI (x_T_wI hT (z_isM_dec _ rfl)) (z_isM_dec _ rfl), hA, hB, hC, hD, hE, hF, hG, hH, hI, hJ, ⟨hK.1, fun r hr => ?_⟩, hL, hM, hN⟩
  have hr' : r < vN A 4 0 := hr
  obtain ⟨h1, h2, h3, h4, h5⟩ := hK.2 r hr'
  refine ⟨h1, h2, h3, ?_⟩
  show gI (wI σ 7 4 (vN A 18 s) (Int32.ofNat m.length)) 7 4 (vN A 18 r) = Int32.ofNat (vL (sL A 10 s m) 10 r).length ∧ ∀ j, (h : j < (vL (sL A 10 s m) 10 r).length) → ¬ (1 ≤ j ∧ j ≤ 3) → gI (rI (wI σ 7 4 (vN A 18 s) (Int32.ofNat m.length)) 72361361 (vN A 18 s) f) 72361361 (vN A 18 r) j = (vL (sL A 10 s m) 10 r)[j]
  by_cases e : r = s
  · subst e
    simp only [vL_sL, gI_wI, hI_rI, ev_rd, ev_st, aEl, z_w, z_cat, Nat.reduceMod, Nat.reduceDiv, Nat.reduceLeDiff, Nat.reduceLT, Nat.reduceAdd, Nat.reduceMul, Nat.reduceSub, Nat.reduceEqDiff, Int32.reduceLT, Int32.reduceLE, Int32.reduceAdd, Int32.reduceSub, Int32.reduceMul, true_and, and_true, false_and, and_false, true_or, or_true, false_or, or_false, not_true_eq_false, not_false_eq_true, if_true, if_false, reduceIte, ne_eq, and_self, or_self, reduceCtorEq, Option.some.injEq, Prod.mk.injEq]
    exact hf
  · have ne : ¬ vN A 18 r = vN A 18 s := fun g => e ((hK.1 s (by omega)).2.2 r (by omega) g)
    simp only [vL_sL, gI_wI, hI_rI, ev_rd, ev_st, aEl, z_w, z_cat, Nat.reduceMod, Nat.reduceDiv, Nat.reduceLeDiff, Nat.reduceLT, Nat.reduceAdd, Nat.reduceMul, Nat.reduceSub, Nat.reduceEqDiff, Int32.reduceLT, Int32.reduceLE, Int32.reduceAdd, Int32.reduceSub, Int32.reduceMul, true_and, and_true, false_and, and_false, true_or, or_true, false_or, or_false, not_true_eq_false, not_false_eq_true, if_true, if_false, reduceIte, ne_eq, and_self, or_self, reduceCtorEq, Option.some.injEq, Prod.mk.injEq, e, ne]
    exact ⟨h4, h5⟩
