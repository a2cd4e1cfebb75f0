/-! PART 94c (src 94c.sign.src): sign, on both sides -/
set_option maxHeartbeats 400000
def fn_sg (c x : Int32) : Int32 := (c >>> (x &&& 31)) &&& 255
abbrev fn_isL (b : Int32) : Prop := (97 ≤ b ∧ b ≤ 122) ∨ (48 ≤ b ∧ b ≤ 57) ∨ b = 46 ∨ b = 45
def z_shf : List Int32 := [24, 16, 8, 0]
abbrev fn_sb (c : Int32) (l : List Int32) : Prop := ∃ x, x ∈ l ∧ ¬ fn_sg c x = 0 ∧ ¬ fn_isL (fn_sg c x)
def fn_sm (c : Int32) (l : List Int32) : List Int32 := (l.map (fn_sg c)).filter fun b => decide (¬ b = 0)
def z_sf : List Int32 → Int32 → Prop
  | [], x => x = -8
  | a :: l, x => x = a ∧ 0 ≤ a ∧ z_sf l (a + (-8))
theorem sf_shf : z_sf z_shf 24 := ⟨rfl, by decide, rfl, by decide, rfl, by decide, rfl, by decide, rfl⟩
theorem sm_0 {c a : Int32} (l : List Int32) (h : fn_sg c a = 0) : fn_sm c (a :: l) = fn_sm c l := by
  unfold fn_sm
  rw [List.map_cons, List.filter_cons, h]
  rfl
theorem sm_1 {c a : Int32} (l : List Int32) (h : ¬ fn_sg c a = 0) : fn_sm c (a :: l) = fn_sg c a :: fn_sm c l := by
  unfold fn_sm
  rw [List.map_cons, List.filter_cons, if_pos (by simpa using h)]
theorem sb_t {c a : Int32} {l : List Int32} (h : fn_sb c l) : fn_sb c (a :: l) := by
  obtain ⟨x, h1, h2⟩ := h
  exact ⟨x, List.mem_cons_of_mem _ h1, h2⟩
theorem sb_n {c a : Int32} {l : List Int32} (h : ¬ fn_sb c l) (g : fn_sg c a = 0 ∨ fn_isL (fn_sg c a)) : ¬ fn_sb c (a :: l) := by
  rintro ⟨x, h1, h2, h3⟩
  rcases List.mem_cons.mp h1 with e | e
  · rw [e] at h2 h3
    exact g.elim h2 h3
  · exact h ⟨x, e, h2, h3⟩
theorem xc_letter {σ : z_St} {x : Int32} {d : Nat} {Q : z_St → Option z_V → Prop} (k : Q σ (some (.inl (b2i (fn_isL x))))) : wp (zD (d + 1) 0 [.inl x] σ) Q := by
  have k1 : fn_isL x → wp (E xP0 (zD (d + 0)) 6 [none] [] σ) Q := fun h => by
    rw [b2i_t h] at k
    exact wp_eq (e0_6 ..) (wp_eq (e0_8 ..) (wp_gd (.inr rfl) (wp_ret k)))
  have k0 : ¬ fn_isL x → wp (E xP0 (zD (d + 0)) 7 [none] [] σ) Q := fun h => by
    rw [b2i_f h] at k
    exact wp_eq (e0_7 ..) (wp_eq (e0_8 ..) (wp_gd (.inl rfl) (wp_ret k)))
  have b4 : ¬ (97 ≤ x ∧ x ≤ 122) → ¬ (48 ≤ x ∧ x ≤ 57) → wp (E xP0 (zD (d + 0)) 4 [some (.inl x)] [] σ) Q := fun g1 g2 =>
    wp_eq (e0_4 ..) (wp_if (fun h => k1 (.inr (.inr (.inl h)))) (fun h => wp_eq (e0_5 ..) (wp_if (fun h2 => k1 (.inr (.inr (.inr h2)))) (fun h2 => k0 (fun q => q.elim g1 (fun q => q.elim g2 (fun q => q.elim h h2)))))))
  have b2 : ¬ (97 ≤ x ∧ x ≤ 122) → wp (E xP0 (zD (d + 0)) 2 [some (.inl x)] [] σ) Q := fun g1 =>
    wp_eq (e0_2 ..) (wp_if (fun h => b4 g1 (fun q => absurd h (Int32.not_lt.mpr q.1))) (fun h => wp_eq (e0_3 ..) (wp_if (fun h2 => k1 (.inr (.inl ⟨Int32.not_lt.mp h, h2⟩))) (fun h2 => b4 g1 (fun q => h2 q.2)))))
  exact wp_eq (c0 ..) (wp_eq (e0_0 ..) (wp_if (fun h => b2 (fun q => absurd h (Int32.not_lt.mpr q.1))) (fun h => wp_eq (e0_1 ..) (wp_if (fun h2 => k1 (.inl ⟨Int32.not_lt.mp h, h2⟩)) (fun h2 => b2 (fun q => h2 q.2))))))
theorem mc_letter {σ : z_St} {x : Int32} {d : Nat} {Q : z_St → Option z_V → Prop} (k : Q σ (some (.inl (b2i (fn_isL x))))) : wp (zD (d + 1) 86 [.inl x] σ) Q := by
  have k1 : fn_isL x → wp (E xP86 (zD (d + 0)) 6 [none] [] σ) Q := fun h => by
    rw [b2i_t h] at k
    exact wp_eq (e86_6 ..) (wp_eq (e86_8 ..) (wp_gd (.inr rfl) (wp_ret k)))
  have k0 : ¬ fn_isL x → wp (E xP86 (zD (d + 0)) 7 [none] [] σ) Q := fun h => by
    rw [b2i_f h] at k
    exact wp_eq (e86_7 ..) (wp_eq (e86_8 ..) (wp_gd (.inl rfl) (wp_ret k)))
  have b4 : ¬ (97 ≤ x ∧ x ≤ 122) → ¬ (48 ≤ x ∧ x ≤ 57) → wp (E xP86 (zD (d + 0)) 4 [some (.inl x)] [] σ) Q := fun g1 g2 =>
    wp_eq (e86_4 ..) (wp_if (fun h => k1 (.inr (.inr (.inl h)))) (fun h => wp_eq (e86_5 ..) (wp_if (fun h2 => k1 (.inr (.inr (.inr h2)))) (fun h2 => k0 (fun q => q.elim g1 (fun q => q.elim g2 (fun q => q.elim h h2)))))))
  have b2 : ¬ (97 ≤ x ∧ x ≤ 122) → wp (E xP86 (zD (d + 0)) 2 [some (.inl x)] [] σ) Q := fun g1 =>
    wp_eq (e86_2 ..) (wp_if (fun h => b4 g1 (fun q => absurd h (Int32.not_lt.mpr q.1))) (fun h => wp_eq (e86_3 ..) (wp_if (fun h2 => k1 (.inr (.inl ⟨Int32.not_lt.mp h, h2⟩))) (fun h2 => b4 g1 (fun q => h2 q.2)))))
  exact wp_eq (c86 ..) (wp_eq (e86_0 ..) (wp_if (fun h => b2 (fun q => absurd h (Int32.not_lt.mpr q.1))) (fun h => wp_eq (e86_1 ..) (wp_if (fun h2 => k1 (.inl ⟨Int32.not_lt.mp h, h2⟩)) (fun h2 => b2 (fun q => h2 q.2))))))
def fn_cSign (A : w_A) (c : Int32) : w_A × Int32 := if c = -1 then (sL A 0 0 [], 0)
  else if fn_sb c z_shf then (A, -2)
  else if (vL A 0 0).length + (fn_sm c z_shf).length ≤ 40 then (sL A 0 0 (vL A 0 0 ++ (fn_sm c z_shf).map nb), Int32.ofNat ((vL A 0 0).length + (fn_sm c z_shf).length))
  else (A, -4)
theorem xl_sg {σ : z_St} {c : Int32} {d : Nat} {Q : z_St → Option z_V → Prop} : ∀ (l : List Int32) (x3 : Int32) (j : Nat), z_sf l x3 → (fn_sb c l → Q σ (some (.inl (-2)))) → (¬ fn_sb c l → wp (E xP3 (zD (d + 1)) 11 [some (.inr (.inr (some (0, 0)))), some (.inl c), some (.inl (Int32.ofNat (j + (fn_sm c l).length))), none, none] [] σ) Q) →
    wp (E xP3 (zD (d + 1)) 3 [some (.inr (.inr (some (0, 0)))), some (.inl c), some (.inl (Int32.ofNat j)), some (.inl x3), none] [] σ) Q
  | [], x3, j, hs, kb, kg => by
    have hs : x3 = -8 := hs
    subst hs
    exact wp_eq (e3_3 ..) (wp_if (fun _ => kg (fun ⟨x, h, _⟩ => by cases h)) (fun h => absurd (by decide) h))
  | a :: l, x3, j, hs, kb, kg => by
    obtain ⟨rfl, h0, hs⟩ := hs
    refine wp_eq (e3_3 ..) (wp_if (fun h => absurd h (Int32.not_lt.mpr h0)) (fun _ => ?_))
    refine wp_eq (e3_4 ..) (wp_if (fun h => ?_) (fun h => ?_))
    · have h : fn_sg c x3 = 0 := h
      refine wp_eq (e3_7 ..) (wp_if (fun _ => wp_eq (e3_9 ..) (wp_eq (e3_10 ..) ?_)) (fun g => absurd h g))
      rw [show Int32.ofNat j + 0 = Int32.ofNat j from Int32.add_zero _]
      refine xl_sg l _ j hs (fun hb => kb (sb_t hb)) (fun hb => ?_)
      have := kg (sb_n hb (.inl h))
      rw [sm_0 l h] at this
      exact this
    · have h : ¬ fn_sg c x3 = 0 := h
      refine wp_eq (e3_5 ..) (wp_cr (xc_letter (d := d) ⟨_, rfl, wp_asI0 ?_⟩))
      refine wp_if (fun g => ?_) (fun g => ?_) <;> rw [b2i_0] at g
      · exact wp_eq (e3_6 ..) (wp_ret (kb ⟨x3, List.mem_cons_self, h, g⟩))
      · have g := Classical.not_not.mp g
        refine wp_eq (e3_7 ..) (wp_if (fun q => absurd q h) (fun _ => wp_eq (e3_8 ..) (wp_eq (e3_10 ..) ?_)))
        rw [io_add_l]
        refine xl_sg l _ (j + 1) hs (fun hb => kb (sb_t hb)) (fun hb => ?_)
        have := kg (sb_n hb (.inr g))
        rw [sm_1 l h, List.length_cons, show j + ((fn_sm c l).length + 1) = j + 1 + (fn_sm c l).length by omega] at this
        exact this
theorem ml_sg {σ : z_St} {c : Int32} {d : Nat} {Q : z_St → Option z_V → Prop} : ∀ (l : List Int32) (x3 : Int32) (j : Nat), z_sf l x3 → (fn_sb c l → Q σ (some (.inl (-2)))) → (¬ fn_sb c l → wp (E xP87 (zD (d + 1)) 11 [some (.inr (.inr (some (8, 0)))), some (.inl c), some (.inl (Int32.ofNat (j + (fn_sm c l).length))), none, none] [] σ) Q) →
    wp (E xP87 (zD (d + 1)) 3 [some (.inr (.inr (some (8, 0)))), some (.inl c), some (.inl (Int32.ofNat j)), some (.inl x3), none] [] σ) Q
  | [], x3, j, hs, kb, kg => by
    have hs : x3 = -8 := hs
    subst hs
    exact wp_eq (e87_3 ..) (wp_if (fun _ => kg (fun ⟨x, h, _⟩ => by cases h)) (fun h => absurd (by decide) h))
  | a :: l, x3, j, hs, kb, kg => by
    obtain ⟨rfl, h0, hs⟩ := hs
    refine wp_eq (e87_3 ..) (wp_if (fun h => absurd h (Int32.not_lt.mpr h0)) (fun _ => ?_))
    refine wp_eq (e87_4 ..) (wp_if (fun h => ?_) (fun h => ?_))
    · have h : fn_sg c x3 = 0 := h
      refine wp_eq (e87_7 ..) (wp_if (fun _ => wp_eq (e87_9 ..) (wp_eq (e87_10 ..) ?_)) (fun g => absurd h g))
      rw [show Int32.ofNat j + 0 = Int32.ofNat j from Int32.add_zero _]
      refine ml_sg l _ j hs (fun hb => kb (sb_t hb)) (fun hb => ?_)
      have := kg (sb_n hb (.inl h))
      rw [sm_0 l h] at this
      exact this
    · have h : ¬ fn_sg c x3 = 0 := h
      refine wp_eq (e87_5 ..) (wp_cr (mc_letter (d := d) ⟨_, rfl, wp_asI0 ?_⟩))
      refine wp_if (fun g => ?_) (fun g => ?_) <;> rw [b2i_0] at g
      · exact wp_eq (e87_6 ..) (wp_ret (kb ⟨x3, List.mem_cons_self, h, g⟩))
      · have g := Classical.not_not.mp g
        refine wp_eq (e87_7 ..) (wp_if (fun q => absurd q h) (fun _ => wp_eq (e87_8 ..) (wp_eq (e87_10 ..) ?_)))
        rw [io_add_l]
        refine ml_sg l _ (j + 1) hs (fun hb => kb (sb_t hb)) (fun hb => ?_)
        have := kg (sb_n hb (.inr g))
        rw [sm_1 l h, List.length_cons, show j + ((fn_sm c l).length + 1) = j + 1 + (fn_sm c l).length by omega] at this
        exact this
theorem AT_app (A : w_A) (l m : List Int32) : sL (sL A 0 0 l) 0 0 (vL (sL A 0 0 l) 0 0 ++ m) = sL A 0 0 (l ++ m) := by
  rw [vL_sL, if_pos ⟨rfl, rfl⟩, sL_sL]
theorem xl_sa {T : z_St} {c : Int32} {d : Nat} {Q : z_St → Option z_V → Prop} : ∀ (l : List Int32) (x3 : Int32) (A : w_A) (σ : z_St), z_sf l x3 → w_X T σ A → vN A 2 0 ≤ 16 → vN A 4 0 ≤ 32 → (vL A 0 0).length + (fn_sm c l).length ≤ 40 → (∀ σ, w_X T σ (sL A 0 0 (vL A 0 0 ++ (fn_sm c l).map nb)) → wp (E xP3 (zD (d + 1)) 18 [some (.inr (.inr (some (0, 0)))), none, none, none, none] [] σ) Q) →
    wp (E xP3 (zD (d + 1)) 14 [some (.inr (.inr (some (0, 0)))), some (.inl c), none, some (.inl x3), none] [] σ) Q
  | [], x3, A, σ, hs, hX, hl, hkp, h40, k => by
    have hs : x3 = -8 := hs
    subst hs
    refine wp_eq (e3_14 ..) (wp_if (fun _ => k σ (X_cv hX ?_)) (fun h => absurd (by decide) h))
    rw [show (fn_sm c []).map nb = [] from rfl, List.append_nil, sL_id A rfl]
  | a :: l, x3, A, σ, hs, hX, hl, hkp, h40, k => by
    obtain ⟨rfl, h0, hs⟩ := hs
    refine wp_eq (e3_14 ..) (wp_if (fun h => absurd h (Int32.not_lt.mpr h0)) (fun _ => ?_))
    refine wp_eq (e3_15 ..) (wp_if (fun h => ?_) (fun h => ?_))
    · have h : fn_sg c x3 = 0 := h
      rw [sm_0 l h] at h40 k
      exact wp_eq (e3_17 ..) (xl_sa l _ A σ hs hX hl hkp h40 k)
    · have h : ¬ fn_sg c x3 = 0 := h
      rw [sm_1 l h, List.length_cons] at h40
      rw [sm_1 l h, List.map_cons] at k
      refine wp_eq (e3_16 ..) (wp_dr (rx_p0_0 hX) (wp_gd rfl (wp_cv (xc_add (d := d) hX hl hkp (by omega) fun σ hX => ⟨rfl, ?_⟩))))
      refine wp_eq (e3_17 ..) (xl_sa l _ _ σ hs hX hl hkp ?_ fun σ hX => ?_)
      · rw [vL_sL, if_pos ⟨rfl, rfl⟩, List.length_append, List.length_singleton]
        omega
      · rw [AT_app, List.append_assoc] at hX
        exact k σ hX
theorem xc_sign {T σ : z_St} {A : w_A} (hX : w_X T σ A) {n : Nat} (hB : z_B n A) {c : Int32} {d : Nat} {Q : z_St → Option z_V → Prop} (k : ∀ σ v, w_X T σ (fn_cSign A c).1 → v = some (.inl (fn_cSign A c).2) → Q σ v) : wp (zD (d + 2) 3 [.inr (.inr (some (0, 0))), .inl c] σ) Q := by
  have hb := hB.1
  have h40 := hB.2.2.2.2.2.2.1.1
  unfold fn_cSign at k
  refine wp_eq (c3 ..) (wp_eq (e3_0 ..) (wp_if (fun h => ?_) (fun h => ?_)))
  · rw [if_pos h] at k
    exact wp_eq (e3_1 ..) (wp_dr (rx_p0_0 hX) (wp_gd rfl (wp_cv (xc_clear (d := d) hX hb.2.2.1 hb.2.2.2.2.1 fun σ hX => ⟨rfl, wp_ret (k _ _ hX rfl)⟩))))
  rw [if_neg h] at k
  refine wp_eq (e3_2 ..) (xl_sg z_shf 24 0 sf_shf (fun hb => ?_) (fun hnb => ?_))
  · rw [if_pos hb] at k
    exact k _ _ hX rfl
  rw [if_neg hnb] at k
  rw [Nat.zero_add]
  have ht := rx_AT hX
  have hm : (fn_sm c z_shf).length ≤ 4 := List.length_filter_le _ _
  refine wp_eq (e3_11 ..) (wp_dr (rx_p0_0 hX) (wp_gd rfl ?_))
  dsimp only
  rw [ht.1, io_add]
  refine wp_if (fun g => ?_) (fun g => ?_) <;> rw [show (40 : Int32) = Int32.ofNat 40 from rfl, io_le (by omega) (by omega)] at g
  rotate_left
  · rw [if_neg g] at k
    exact wp_eq (e3_12 ..) (wp_ret (k _ _ hX rfl))
  rw [if_pos g] at k
  refine wp_eq (e3_13 ..) (xl_sa z_shf 24 A σ sf_shf hX hb.2.2.1 hb.2.2.2.2.1 g fun σ hX => ?_)
  refine wp_eq (e3_18 ..) (wp_dr (rx_p0_0 hX) (wp_gd rfl (wp_ret (k _ _ hX ?_))))
  dsimp only
  rw [(rx_AT hX).1, vL_sL, if_pos ⟨rfl, rfl⟩, List.length_append, List.length_map]
theorem wm_AT {T σ : z_St} {A : w_A} (h : w_M T σ A) {m : List Int32} {f : Nat → Int32} (hf : ∀ k, (h : k < m.length) → f k = m[k]) : w_M T (wI (rI σ 7341329 0 f) 8 4 0 (Int32.ofNat m.length)) (sL A 0 0 m) := by
  obtain ⟨hT, hA, hB, hC, hD, hG, hH, hI, hJ, hK, hL, hM, hN⟩ := h
  refine ⟨m_T_wI (m_T_rI hT (z_isM_yes _ rfl)) (z_isM_yes _ rfl), hA, hB, hC, hD, ⟨?_, fun k hk => ?_, hG.2.2⟩, hH, hI, hJ, hK, hL, hM, hN⟩
  · rw [gI_wI, if_pos ⟨rfl, rfl, rfl⟩, vL_sL, if_pos ⟨rfl, rfl⟩]
  · show gI (wI (rI σ 7341329 0 f) 8 4 0 (Int32.ofNat m.length)) 7341329 0 (0 + k) = m[k]
    rw [gI_wI, if_neg (fun g => absurd g.1 (by decide)), hI_rI, if_pos ⟨rfl, rfl⟩, Nat.zero_add]
    exact hf k hk
theorem wm_AT0 {T σ : z_St} {A : w_A} (h : w_M T σ A) : w_M T (wI σ 8 4 0 0) (sL A 0 0 []) := by
  have := wm_AT h (m := []) (f := gI σ 7341329 0) (fun k h => absurd h (Nat.not_lt_zero k))
  rw [rI_id] at this
  exact this
theorem ml_sa {T : z_St} {c : Int32} {d : Nat} {Q : z_St → Option z_V → Prop} : ∀ (l : List Int32) (x3 : Int32) (A : w_A) (σ : z_St), z_sf l x3 → w_M T σ A → (vL A 0 0).length + (fn_sm c l).length ≤ 40 → (∀ σ, w_M T σ (sL A 0 0 (vL A 0 0 ++ (fn_sm c l).map nb)) → wp (E xP87 (zD (d + 1)) 18 [some (.inr (.inr (some (8, 0)))), none, none, none, none] [] σ) Q) →
    wp (E xP87 (zD (d + 1)) 14 [some (.inr (.inr (some (8, 0)))), some (.inl c), none, some (.inl x3), none] [] σ) Q
  | [], x3, A, σ, hs, hM, h40, k => by
    have hs : x3 = -8 := hs
    subst hs
    refine wp_eq (e87_14 ..) (wp_if (fun _ => k σ (M_cv hM ?_)) (fun h => absurd (by decide) h))
    rw [show (fn_sm c []).map nb = [] from rfl, List.append_nil, sL_id A rfl]
  | a :: l, x3, A, σ, hs, hM, h40, k => by
    obtain ⟨rfl, h0, hs⟩ := hs
    refine wp_eq (e87_14 ..) (wp_if (fun h => absurd h (Int32.not_lt.mpr h0)) (fun _ => ?_))
    refine wp_eq (e87_15 ..) (wp_if (fun h => ?_) (fun h => ?_))
    · have h : fn_sg c x3 = 0 := h
      rw [sm_0 l h] at h40 k
      exact wp_eq (e87_17 ..) (ml_sa l _ A σ hs hM h40 k)
    · have h : ¬ fn_sg c x3 = 0 := h
      rw [sm_1 l h, List.length_cons] at h40
      rw [sm_1 l h, List.map_cons] at k
      have hG := hM.2.2.2.2.2.1
      have h4 : gI σ 8 4 0 = Int32.ofNat (vL A 0 0).length := hG.1
      have hx : (gI σ 8 4 0) = Int32.ofNat (vL A 0 0).length := h4
      refine wp_eq (e87_16 ..) (wp_ar (k := (vL A 0 0).length) (rm_p3 hM) aty_7341329 alen_7341329 hx (by omega) (by decide) ?_)
      dsimp only
      rw [h4, io_nat (by omega), nb_un, nb_un, nb_nb]
      refine wp_sw ?_
      rw [show gI (wI σ 7341329 0 (vL A 0 0).length (nb ((c >>> (x3 &&& 31)) &&& 255))) 8 4 0 = Int32.ofNat (vL A 0 0).length from h4, io_add_l]
      have hM2 := wm_AT hM (m := vL A 0 0 ++ [nb (fn_sg c x3)]) (f := va_up (gI σ 7341329 0) (vL A 0 0).length (nb (fn_sg c x3))) (fun k hk => by
        unfold va_up
        by_cases e : k = (vL A 0 0).length
        · subst e
          rw [if_pos rfl]
          simp
        · have hk2 : k < (vL A 0 0).length := by
            rw [List.length_append, List.length_singleton] at hk
            omega
          rw [if_neg e, List.getElem_append_left hk2]
          have := hG.2.1 k hk2
          rw [Nat.zero_add] at this
          exact this)
      rw [List.length_append, List.length_singleton] at hM2
      refine wp_sw (wp_eq (e87_17 ..) (ml_sa l _ _ _ hs hM2 ?_ fun σ hM => ?_))
      · rw [vL_sL, if_pos ⟨rfl, rfl⟩, List.length_append, List.length_singleton]
        omega
      · rw [AT_app, List.append_assoc] at hM
        exact k σ hM
theorem mc_sign {T σ : z_St} {A : w_A} (hM : w_M T σ A) {n : Nat} (hB : z_B n A) {c : Int32} {d : Nat} {Q : z_St → Option z_V → Prop} (k : ∀ σ v, w_M T σ (fn_cSign A c).1 → v = some (.inl (fn_cSign A c).2) → Q σ v) : wp (zD (d + 2) 87 [.inr (.inr (some (8, 0))), .inl c] σ) Q := by
  have h40 := hB.2.2.2.2.2.2.1.1
  unfold fn_cSign at k
  refine wp_eq (c87 ..) (wp_eq (e87_0 ..) (wp_swM (wm_code hM _) fun σ hM => wp_if (fun h => ?_) (fun h => ?_)))
  · rw [if_pos h] at k
    exact wp_eq (e87_1 ..) (wp_sw (wp_ret (k _ _ (wm_AT0 hM) rfl)))
  rw [if_neg h] at k
  refine wp_eq (e87_2 ..) (ml_sg z_shf 24 0 sf_shf (fun hb => ?_) (fun hnb => ?_))
  · rw [if_pos hb] at k
    exact k _ _ hM rfl
  rw [if_neg hnb] at k
  rw [Nat.zero_add]
  have h4 : gI σ 8 4 0 = Int32.ofNat (vL A 0 0).length := hM.2.2.2.2.2.1.1
  have hm : (fn_sm c z_shf).length ≤ 4 := List.length_filter_le _ _
  refine wp_eq (e87_11 ..) ?_
  rw [h4, io_add]
  refine wp_if (fun g => ?_) (fun g => ?_) <;> rw [show (40 : Int32) = Int32.ofNat 40 from rfl, io_le (by omega) (by omega)] at g
  rotate_left
  · rw [if_neg g] at k
    exact wp_eq (e87_12 ..) (wp_ret (k _ _ hM rfl))
  rw [if_pos g] at k
  refine wp_eq (e87_13 ..) (ml_sa z_shf 24 A σ sf_shf hM g fun σ hM => ?_)
  refine wp_eq (e87_18 ..) (wp_ret (k _ _ hM ?_))
  have h5 : gI σ 8 4 0 = Int32.ofNat (vL (sL A 0 0 (vL A 0 0 ++ (fn_sm c z_shf).map nb)) 0 0).length := hM.2.2.2.2.2.1.1
  rw [h5, vL_sL, if_pos ⟨rfl, rfl⟩, List.length_append, List.length_map]
/-! own -/
def fn_cOwn (A : w_A) : w_A × Int32 := if (vL A 0 0).length = 0 then (A, -2) else if 0 < vN A 0 0 then (A, -3) else (sL (sL A 1 0 (vL A 0 0)) 0 0 [], Int32.ofNat (vL A 0 0).length)
theorem xc_own {T σ : z_St} {A : w_A} (hX : w_X T σ A) {n : Nat} (hB : z_B n A) {d : Nat} {Q : z_St → Option z_V → Prop} (k : ∀ σ v, w_X T σ (fn_cOwn A).1 → v = some (.inl (fn_cOwn A).2) → Q σ v) : wp (zD (d + 2) 4 [.inr (.inr (some (0, 0)))] σ) Q := by
  have hb := hB.1
  have h40 := hB.2.2.2.2.2.2.1.1
  unfold fn_cOwn at k
  have ht := rx_AT hX
  refine wp_eq (c4 ..) (wp_eq (e4_0 ..) (wp_dr (rx_p0_0 hX) (wp_gd rfl ?_)))
  dsimp only
  rw [ht.1]
  refine wp_if (fun h => ?_) (fun h => ?_) <;> rw [show (0 : Int32) = Int32.ofNat 0 from rfl, io_inj (by omega) (by omega)] at h
  · rw [if_pos h] at k
    exact wp_eq (e4_1 ..) (wp_ret (k _ _ hX rfl))
  rw [if_neg h] at k
  refine wp_eq (e4_2 ..) ?_
  rw [rx_PEERS hX]
  refine wp_if (fun h => ?_) (fun h => ?_) <;> rw [show (0 : Int32) = Int32.ofNat 0 from rfl, io_le (by omega) (by omega)] at h
  rotate_left
  · rw [if_pos (by omega)] at k
    exact wp_eq (e4_3 ..) (wp_ret (k _ _ hX rfl))
  rw [if_neg (by omega)] at k
  refine wp_eq (e4_4 ..) (wp_dr (rx_p0_1 hX) (wp_gd rfl ?_))
  rw [rx_p0_0 hX]
  refine wp_cv (xc_copy_ (d := d) ht h40 (rx_p1_0 hX) (by decide) fun f hf => ⟨rfl, ?_⟩)
  have hX := wx_HOST hX hb.2.2.1 hb.2.2.2.2.1 hf
  refine wp_dr (rx_p0_0 hX) (wp_gd rfl (wp_cv (xc_clear (d := d) hX hb.2.2.1 hb.2.2.2.2.1 fun σ hX => ⟨rfl, wp_dr (rx_p0_1 hX) (wp_gd rfl (wp_ret (k _ _ hX ?_)))⟩)))
  dsimp only
  rw [(rx_HOST hX).1]
  show some (Sum.inl (Int32.ofNat (vL (sL A 1 0 (vL A 0 0)) 1 0).length)) = _
  rw [vL_sL, if_pos ⟨rfl, rfl⟩]
theorem wm_HOST {T σ : z_St} {A : w_A} (h : w_M T σ A) {m : List Int32} {f : Nat → Int32} (hf : ∀ k, (h : k < m.length) → f k = m[k]) : w_M T (wI (rI σ 8389905 0 f) 8 6 0 (Int32.ofNat m.length)) (sL A 1 0 m) := by
  obtain ⟨hT, hA, hB, hC, hD, hG, hH, hI, hJ, hK, hL, hM, hN⟩ := h
  refine ⟨m_T_wI (m_T_rI hT (z_isM_yes _ rfl)) (z_isM_yes _ rfl), hA, hB, hC, hD, ⟨hG.1, hG.2.1, ?_, fun k hk => ?_, hG.2.2.2.2⟩, hH, hI, hJ, hK, hL, hM, hN⟩
  · rw [gI_wI, if_pos ⟨rfl, rfl, rfl⟩, vL_sL, if_pos ⟨rfl, rfl⟩]
  · show gI (wI (rI σ 8389905 0 f) 8 6 0 (Int32.ofNat m.length)) 8389905 0 (0 + k) = m[k]
    rw [gI_wI, if_neg (fun g => absurd g.1 (by decide)), hI_rI, if_pos ⟨rfl, rfl⟩, Nat.zero_add]
    exact hf k hk
theorem ml_own {σ : z_St} {d L : Nat} (hL : L ≤ 40) (h4 : gI σ 8 4 0 = Int32.ofNat L) (hp : gR σ 8 3 0 = some (7341329, 0)) (hp2 : gR σ 8 5 0 = some (8389905, 0)) {Q : z_St → Option z_V → Prop} (k : wp (E xP88 (zD d) 7 [some (.inr (.inr (some (8, 0)))), none] [] (rI σ 8389905 0 (fn_cp (gI σ 7341329 0) 0 0 (gI σ 8389905 0) L))) Q) : ∀ (m j : Nat), j + m = L →
    wp (E xP88 (zD d) 5 [some (.inr (.inr (some (8, 0)))), some (.inl (Int32.ofNat j))] [] (rI σ 8389905 0 (fn_cp (gI σ 7341329 0) 0 0 (gI σ 8389905 0) j))) Q
  | 0, j, hj => by
    have e4 : gI (rI σ 8389905 0 (fn_cp (gI σ 7341329 0) 0 0 (gI σ 8389905 0) j)) 8 4 0 = Int32.ofNat L := h4
    have : j = L := by omega
    subst this
    refine wp_eq (e88_5 ..) ?_
    rw [e4]
    exact wp_if (fun _ => k) (fun h => by rw [io_le (by omega) (by omega)] at h; omega)
  | m + 1, j, hj => by
    have e4 : gI (rI σ 8389905 0 (fn_cp (gI σ 7341329 0) 0 0 (gI σ 8389905 0) j)) 8 4 0 = Int32.ofNat L := h4
    have er : gI (rI σ 8389905 0 (fn_cp (gI σ 7341329 0) 0 0 (gI σ 8389905 0) j)) 7341329 0 j = gI σ 7341329 0 (0 + j) := by rw [hI_rI, if_neg (fun q => absurd q.1 (by decide)), Nat.zero_add]
    have ec := cp_s (gI σ 7341329 0) 0 0 (gI σ 8389905 0) j
    rw [show 0 + j = j from Nat.zero_add j] at ec er
    refine wp_eq (e88_5 ..) ?_
    rw [e4]
    refine wp_if (fun h => by rw [io_le (by omega) (by omega)] at h; omega) (fun _ => ?_)
    refine wp_eq (e88_6 ..) (wp_ar (k := j) hp aty_7341329 alen_7341329 rfl (by omega) (by decide) (wp_ar (k := j) hp2 aty_8389905 alen_8389905 rfl (by omega) (by decide) ?_))
    rw [io_nat (by omega), nb_un, io_add_l]
    dsimp only
    rw [er, wI_rI, ec]
    exact wp_sw (ml_own hL h4 hp hp2 k m (j + 1) (by omega))
theorem mc_own {T σ : z_St} {A : w_A} (hM : w_M T σ A) {n : Nat} (hB : z_B n A) {d : Nat} {Q : z_St → Option z_V → Prop} (k : ∀ σ v, w_M T σ (fn_cOwn A).1 → v = some (.inl (fn_cOwn A).2) → Q σ v) : wp (zD (d + 1) 88 [.inr (.inr (some (8, 0)))] σ) Q := by
  have hb := hB.1
  have h40 := hB.2.2.2.2.2.2.1
  have h40l := h40.1
  unfold fn_cOwn at k
  refine wp_eq (c88 ..) (wp_eq (e88_0 ..) (wp_swM (wm_code hM _) fun σ hM => ?_))
  have hG := hM.2.2.2.2.2.1
  have h4 : gI σ 8 4 0 = Int32.ofNat (vL A 0 0).length := hG.1
  rw [h4]
  refine wp_if (fun h => ?_) (fun h => ?_) <;> rw [show (0 : Int32) = Int32.ofNat 0 from rfl, io_inj (by omega) (by omega)] at h
  · rw [if_pos h] at k
    exact wp_eq (e88_1 ..) (wp_ret (k _ _ hM rfl))
  rw [if_neg h] at k
  refine wp_eq (e88_2 ..) ?_
  rw [rm_PEERS hM]
  refine wp_if (fun h => ?_) (fun h => ?_) <;> rw [show (0 : Int32) = Int32.ofNat 0 from rfl, io_le (by omega) (by omega)] at h
  rotate_left
  · rw [if_pos (by omega)] at k
    exact wp_eq (e88_3 ..) (wp_ret (k _ _ hM rfl))
  rw [if_neg (by omega)] at k
  have key := ml_own (d := d) h40.1 h4 (rm_p3 hM) (rm_p5 hM) (Q := Q) ?_ (vL A 0 0).length 0 (Nat.zero_add _)
  · rw [cp_0, rI_id] at key
    exact wp_eq (e88_4 ..) key
  · refine wp_eq (e88_7 ..) ?_
    have e4 : gI (rI σ 8389905 0 (fn_cp (gI σ 7341329 0) 0 0 (gI σ 8389905 0) (vL A 0 0).length)) 8 4 0 = Int32.ofNat (vL A 0 0).length := h4
    rw [e4]
    have hM2 := wm_HOST hM (m := vL A 0 0) (f := fn_cp (gI σ 7341329 0) 0 0 (gI σ 8389905 0) (vL A 0 0).length) (fun i hi => by
      have hr := hG.2.1 i hi
      rw [Nat.zero_add] at hr
      unfold fn_cp
      rw [if_pos (by omega), show 0 + (i - 0) = i by omega, hr]
      exact h40.2 _ (List.getElem_mem hi))
    refine wp_sw (wp_sw (wp_ret (k _ _ (wm_AT0 hM2) ?_)))
    show some (Sum.inl (gI (wI (wI (rI σ 8389905 0 _) 8 6 0 _) 8 4 0 0) 8 6 0)) = _
    rw [gI_wI, if_neg (fun g => absurd g.2.1 (by decide)), gI_wI, if_pos ⟨rfl, rfl, rfl⟩]
