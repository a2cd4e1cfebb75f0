/-! PART 94a (src 94a.tells.src): session, asked, granted, kept -/
set_option maxHeartbeats 400000
theorem in_ix {x : Int32} {n : Nat} (hn : n < 2147483648) : ((0 : Int64) ≤ x.toInt64 ∧ x.toInt64 ≤ (Int32.ofNat n - 1).toInt64) = (¬ x < 0 ∧ x < Int32.ofNat n) := by
  rw [show (0 : Int64) = (0 : Int32).toInt64 from rfl, i64_le, i64_le, Int32.not_lt, Int32.le_iff_toInt_le, Int32.le_iff_toInt_le, Int32.lt_iff_toInt_lt, Int32.toInt_sub, io_toInt (by omega), show (1 : Int32).toInt = 1 from rfl, show (0 : Int32).toInt = 0 from rfl, Int.bmod_eq_of_le (by omega) (by omega)]
  exact propext ⟨fun h => ⟨h.1, by omega⟩, fun h => ⟨h.1, by omega⟩⟩
theorem xc_session {T σ : z_St} {A : w_A} (hX : w_X T σ A) (h16 : vN A 2 0 ≤ 16) {d : Nat} {x w : Int32} {Q : z_St → Option z_V → Prop} (k : ∀ σ v, w_X T σ A → v = some (.inl (fn_cSession A x w)) → Q σ v) : wp (zD (d + 2) 79 [.inr (.inr (some (0, 0))), .inl x, .inl w] σ) Q := by
  unfold fn_cSession at k
  refine wp_eq (c79 ..) (wp_eq (e79_0 ..) ?_)
  rw [rx_SESS hX]
  refine wp_cr (xc_isIn (d := d) fun v hv => ⟨_, hv, wp_asI0 ?_⟩)
  refine wp_if (fun h => ?_) (fun h => ?_) <;> rw [b2i_0, in_ix (by omega)] at h
  · have h' : x < 0 ∨ ¬ x < Int32.ofNat (vN A 2 0) := by
      by_cases g : x < 0
      · exact .inl g
      · exact .inr fun q => h ⟨g, q⟩
    rw [if_pos h'] at k
    exact wp_eq (e79_1 ..) (wp_ret (k _ _ hX rfl))
  have h := Classical.not_not.mp h
  rw [if_neg (fun q => q.elim h.1 (fun q => q h.2))] at k
  obtain ⟨s, hs, rfl, hx⟩ := ix_of (by omega) h.1 h.2
  rw [hx] at k
  have hs31 : s < 2147483648 := by omega
  have so := rx_sobj hX (s := s) (by omega)
  refine wp_eq (e79_2 ..) (wp_dr (rx_p0_11 hX) (wp_gd (by rw [aty_4194839]; decide) (wp_gd (by rw [alen_4194839]; exact zin_io (by omega) (by decide)) ?_)))
  dsimp only
  rw [io_nat hs31, so]
  refine wp_if (fun h => ?_) (fun h2 => ?_)
  · rw [if_pos h] at k
    refine wp_eq (e79_3 ..) (wp_dr rfl (wp_gd rfl (wp_dr (rx_p5_0 hX _) (wp_gd rfl (wp_ret (k _ _ hX ?_))))))
    dsimp only
    rw [((rx_J hX).2.2 s hs).2.2.2.2.2.1.1]
  rw [if_neg h2] at k
  refine wp_if (fun h => ?_) (fun h3 => ?_)
  · rw [if_pos h] at k
    refine wp_eq (e79_4 ..) (wp_dr rfl (wp_gd rfl (wp_ret (k _ _ hX ?_))))
    dsimp only
    rw [rx_SCOUNT hX hs]
  rw [if_neg h3] at k
  refine wp_if (fun h => ?_) (fun h4 => ?_)
  · rw [if_pos h] at k
    refine wp_eq (e79_5 ..) (wp_dr rfl (wp_gd rfl (wp_ret (k _ _ hX ?_))))
    dsimp only
    rw [rx_SPEER hX hs]
  rw [if_neg h4] at k
  refine wp_if (fun h => ?_) (fun h5 => ?_)
  · rw [if_pos h] at k
    refine wp_eq (e79_6 ..) (wp_dr rfl (wp_gd rfl (wp_ret (k _ _ hX ?_))))
    dsimp only
    rw [rx_SEND hX hs]
  rw [if_neg h5] at k
  exact wp_eq (e79_7 ..) (wp_ret (k _ _ hX rfl))
theorem xc_asked {T σ : z_St} {A : w_A} (hX : w_X T σ A) {n : Nat} (hI : z_I n A) (hL : ∀ i, i < vN A 3 0 → vN A 12 i ≤ vN A 0 0) {d : Nat} {x w : Int32} {Q : z_St → Option z_V → Prop} (k : ∀ σ v, w_X T σ A → v = some (.inl (fn_cAsked A x w)) → Q σ v) : wp (zD (d + 2) 81 [.inr (.inr (some (0, 0))), .inl x, .inl w] σ) Q := by
  have hb := hI.1.1
  unfold fn_cAsked at k
  refine wp_eq (c81 ..) (wp_eq (e81_0 ..) ?_)
  rw [rx_ASKS hX]
  refine wp_cr (xc_isIn (d := d) fun v hv => ⟨_, hv, wp_asI0 ?_⟩)
  refine wp_if (fun h => ?_) (fun h => ?_) <;> rw [b2i_0, in_ix (by omega)] at h
  · have h' : x < 0 ∨ ¬ x < Int32.ofNat (vN A 3 0) := by
      by_cases g : x < 0
      · exact .inl g
      · exact .inr fun q => h ⟨g, q⟩
    rw [if_pos h'] at k
    exact wp_eq (e81_1 ..) (wp_ret (k _ _ hX rfl))
  have h := Classical.not_not.mp h
  rw [if_neg (fun q => q.elim h.1 (fun q => q h.2))] at k
  obtain ⟨s, hs, rfl, hx⟩ := ix_of (by omega) h.1 h.2
  rw [hx] at k
  have hs31 : s < 2147483648 := by omega
  have hq := (hI.2.2.1 s hs).2.2.2
  have hq2 := hL s hs
  refine wp_eq (e81_2 ..) (wp_dr (rx_p0_13 hX) (wp_gd (by rw [aty_5244952]; decide) (wp_gd (by rw [alen_5244952]; exact zin_io (by omega) (by decide)) ?_)))
  dsimp only
  rw [io_nat hs31, rx_asks hX s (by omega)]
  refine wp_if (fun h => ?_) (fun h2 => ?_)
  · rw [if_pos h] at k
    refine wp_eq (e81_3 ..) (wp_dr rfl (wp_gd rfl (wp_ret (k _ _ hX ?_))))
    dsimp only
    rw [rx_QRES hX]
  rw [if_neg h2] at k
  refine wp_if (fun h => ?_) (fun h3 => ?_)
  · rw [if_pos h] at k
    refine wp_eq (e81_4 ..) (wp_dr rfl (wp_gd rfl (wp_dr ((rx_QPEER hX s).trans (z_per_p hq)) (wp_gd rfl (wp_ret (k _ _ hX ?_))))))
    dsimp only
    rw [((rx_F hX).1 (vN A 12 s - 1) (by omega)).2, show vN A 12 s - 1 + 1 = vN A 12 s by omega]
  rw [if_neg h3] at k
  refine wp_if (fun h => ?_) (fun h4 => ?_)
  · rw [if_pos h] at k
    refine wp_eq (e81_5 ..) (wp_dr rfl (wp_gd rfl (wp_ret (k _ _ hX ?_))))
    dsimp only
    rw [rx_QTIMES hX]
  rw [if_neg h4] at k
  refine wp_if (fun h => ?_) (fun h5 => ?_)
  · rw [if_pos h] at k
    refine wp_eq (e81_6 ..) (wp_dr rfl (wp_gd rfl (wp_ret (k _ _ hX ?_))))
    dsimp only
    rw [rx_QHOP hX]
  rw [if_neg h5] at k
  refine wp_if (fun h => ?_) (fun h6 => ?_)
  · rw [if_pos h] at k
    refine wp_eq (e81_7 ..) (wp_dr rfl (wp_gd rfl (wp_ret (k _ _ hX ?_))))
    dsimp only
    rw [rx_QEND hX]
  rw [if_neg h6] at k
  exact wp_eq (e81_8 ..) (wp_ret (k _ _ hX rfl))
def fn_cGranted (A : w_A) (x : Int32) : Int64 := if x < 0 ∨ ¬ x < Int32.ofNat (vN A 2 0) then -1 else vJ A 5 x.toNatClampNeg
theorem xc_granted {T σ : z_St} {A : w_A} (hX : w_X T σ A) (h16 : vN A 2 0 ≤ 16) {d : Nat} {x : Int32} {Q : z_St → Option z_V → Prop} (k : ∀ σ v, w_X T σ A → v = some (.inr (.inl (fn_cGranted A x))) → Q σ v) : wp (zD (d + 2) 80 [.inr (.inr (some (0, 0))), .inl x] σ) Q := by
  unfold fn_cGranted at k
  refine wp_eq (c80 ..) (wp_eq (e80_0 ..) ?_)
  rw [rx_SESS hX]
  refine wp_cr (xc_isIn (d := d) fun v hv => ⟨_, hv, wp_asI0 ?_⟩)
  refine wp_if (fun h => ?_) (fun h => ?_) <;> rw [b2i_0, in_ix (by omega)] at h
  · have h' : x < 0 ∨ ¬ x < Int32.ofNat (vN A 2 0) := by
      by_cases g : x < 0
      · exact .inl g
      · exact .inr fun q => h ⟨g, q⟩
    rw [if_pos h'] at k
    exact wp_eq (e80_2 ..) (wp_eq (e80_3 ..) (wp_ret (k _ _ hX rfl)))
  have h := Classical.not_not.mp h
  rw [if_neg (fun q => q.elim h.1 (fun q => q h.2))] at k
  obtain ⟨s, hs, rfl, hx⟩ := ix_of (by omega) h.1 h.2
  rw [hx] at k
  have hs31 : s < 2147483648 := by omega
  have so := rx_sobj hX (s := s) (by omega)
  refine wp_eq (e80_1 ..) (wp_dr (rx_p0_11 hX) (wp_gd (by rw [aty_4194839]; decide) (wp_gd (by rw [alen_4194839]; exact zin_io (by omega) (by decide)) ?_)))
  dsimp only
  rw [io_nat hs31, so]
  refine wp_dr rfl (wp_gd rfl (wp_eq (e80_3 ..) (wp_ret (k _ _ hX ?_))))
  dsimp only
  rw [rx_SGRANT hX hs]
theorem mc_granted {T σ : z_St} {A : w_A} (hM : w_M T σ A) (h16 : vN A 2 0 ≤ 16) {d : Nat} {x : Int32} {Q : z_St → Option z_V → Prop} (k : ∀ σ v, w_M T σ A → v = some (.inr (.inl (fn_cGranted A x))) → Q σ v) : wp (zD (d + 1) 181 [.inr (.inr (some (8, 0))), .inl x] σ) Q := by
  unfold fn_cGranted at k
  refine wp_eq (c181 ..) (wp_eq (e181_0 ..) (wp_swM (wm_code hM _) fun σ hM => wp_if (fun h => ?_) (fun h0 => ?_)))
  · rw [if_pos (.inl h)] at k
    exact wp_eq (e181_2 ..) (wp_eq (e181_4 ..) (wp_ret (k _ _ hM rfl)))
  refine wp_eq (e181_1 ..) ?_
  rw [rm_SESS hM]
  refine wp_if (fun h1 => ?_) (fun h1 => ?_)
  rotate_left
  · rw [if_pos (.inr h1)] at k
    exact wp_eq (e181_2 ..) (wp_eq (e181_4 ..) (wp_ret (k _ _ hM rfl)))
  rw [if_neg (fun q => q.elim h0 (fun q => q h1))] at k
  obtain ⟨s, hs, rfl, hx⟩ := ix_of (by omega) h0 h1
  rw [hx] at k
  have hs31 : s < 2147483648 := by omega
  refine wp_eq (e181_3 ..) (wp_ar (rm_p45 hM) aty_45089299 alen_45089299 rfl (by omega) (by decide) ?_)
  dsimp only
  rw [io_nat hs31, rm_SGRANT hM hs]
  exact wp_eq (e181_4 ..) (wp_ret (k _ _ hM rfl))
def fn_cKept (A : w_A) : w_A × Int32 := (fn_stale A, Int32.ofNat (vN (fn_stale A) 4 0))
theorem xc_kept {T σ : z_St} {A : w_A} (hX : w_X T σ A) {n : Nat} (hB : z_B n A) (hT : z_KT A) {d : Nat} {Q : z_St → Option z_V → Prop} (k : ∀ σ v, w_X T σ (fn_cKept A).1 → v = some (.inl (fn_cKept A).2) → Q σ v) : wp (zD (d + 3) 82 [.inr (.inr (some (0, 0)))] σ) Q :=
  wp_eq (c82 ..) (wp_eq (e82_0 ..) (wp_cv (xc_stale (d := d) hX hB hT fun σ hX => ⟨rfl, wp_ret (k _ _ hX (by rw [rx_KEPTS hX]; rfl))⟩)))
theorem mc_kept {T σ : z_St} {A : w_A} (hM : w_M T σ A) {n : Nat} (hB : z_B n A) (hT : z_KT A) {d : Nat} {Q : z_St → Option z_V → Prop} (k : ∀ σ v, w_M T σ (fn_cKept A).1 → v = some (.inl (fn_cKept A).2) → Q σ v) : wp (zD (d + 4) 184 [.inr (.inr (some (8, 0)))] σ) Q :=
  wp_eq (c184 ..) (wp_eq (e184_0 ..) (wp_swM (wm_code hM _) fun σ hM => wp_cv (mc_stale (d := d) hM hB hT fun σ hM => ⟨rfl, wp_ret (k _ _ hM (by rw [rm_KEPTS hM]; rfl))⟩)))
