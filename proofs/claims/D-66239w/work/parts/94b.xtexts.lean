/-! PART 94b (src 94b.xtexts.src, printed by wip/gen/g94.py): the component's other texts are written -/
set_option maxHeartbeats 400000
theorem wx_AT {T σ : z_St} {A : w_A} (h : w_X T σ A) (hl : vN A 2 0 ≤ 16) (hkp : vN A 4 0 ≤ 32)  {m : List Int32} {f : Nat → Int32} (hf : ∀ k, (h : k < m.length) → f k = m[k]) : w_X T (x_tw σ (0) m.length f) (sL A 0 0 m) := by
  obtain ⟨hT, hA, hB, hC, hD, hE, hF, hG, hH, hI, hJ, hK, hL, hM, hN⟩ := h
  obtain ⟨g1, g2, g3, g4⟩ := hG
  refine ⟨x_T_rI (x_T_wI hT (z_isM_dec _ rfl)) (z_isM_dec _ rfl), tw_A (by omega) (by omega) hA, hB, hC, hD, hE, hF, ⟨?_, ?_, fun q hq => ?_, fun q hq => ?_⟩, hH, hI, ⟨hJ.1, ⟨fun t ht => ?_, hJ.2.1.2⟩, fun r hr => ?_⟩, ⟨hK.1, fun r hr => ?_⟩, hL, hM, hN⟩
  · exact tw_eq hf
  · exact tw_ne (by omega) g2
  · exact tw_ne (by omega) (g3 q hq)
  · obtain ⟨q1, q2, q3⟩ := g4 q hq
    exact ⟨tw_ne (by omega) q1, tw_ne (by omega) q2, tw_ne (by omega) q3⟩
  · obtain ⟨n, hn, g⟩ := hJ.2.1.1 t ht
    refine ⟨n, hn, ?_⟩
    show gI (wI σ 1 1 _ _) 1 1 (4 + t) = _
    rw [gI_wI, if_neg (fun g => by have := g.2.2; omega)]
    exact g
  · have hr' : r < vN A 2 0 := hr
    obtain ⟨h1, h2, h3, h4, h5, h6, h7, h8⟩ := hJ.2.2 r hr'
    have ho : vN (sL A 0 0 m) 17 r < 16 := (hJ.1 r (by omega)).2.1
    exact ⟨h1, h2, h3, h4, h5, tw_ne (by omega) h6, tw_ne (by omega) h7, tw_ne (by omega) h8⟩
  · have hr' : r < vN A 4 0 := hr
    have hk := hK.2 r hr'
    have ho : vN (sL A 0 0 m) 18 r < 32 := (hK.1 r (by omega)).2.1
    exact ⟨hk.1, hk.2.1, tw_ne (by omega) hk.2.2.1, hk.2.2.2⟩
theorem wx_HOST {T σ : z_St} {A : w_A} (h : w_X T σ A) (hl : vN A 2 0 ≤ 16) (hkp : vN A 4 0 ≤ 32)  {m : List Int32} {f : Nat → Int32} (hf : ∀ k, (h : k < m.length) → f k = m[k]) : w_X T (x_tw σ (1) m.length f) (sL A 1 0 m) := by
  obtain ⟨hT, hA, hB, hC, hD, hE, hF, hG, hH, hI, hJ, hK, hL, hM, hN⟩ := h
  obtain ⟨g1, g2, g3, g4⟩ := hG
  refine ⟨x_T_rI (x_T_wI hT (z_isM_dec _ rfl)) (z_isM_dec _ rfl), tw_A (by omega) (by omega) hA, hB, hC, hD, hE, hF, ⟨?_, ?_, fun q hq => ?_, fun q hq => ?_⟩, hH, hI, ⟨hJ.1, ⟨fun t ht => ?_, hJ.2.1.2⟩, fun r hr => ?_⟩, ⟨hK.1, fun r hr => ?_⟩, hL, hM, hN⟩
  · exact tw_ne (by omega) g1
  · exact tw_eq hf
  · exact tw_ne (by omega) (g3 q hq)
  · obtain ⟨q1, q2, q3⟩ := g4 q hq
    exact ⟨tw_ne (by omega) q1, tw_ne (by omega) q2, tw_ne (by omega) q3⟩
  · obtain ⟨n, hn, g⟩ := hJ.2.1.1 t ht
    refine ⟨n, hn, ?_⟩
    show gI (wI σ 1 1 _ _) 1 1 (4 + t) = _
    rw [gI_wI, if_neg (fun g => by have := g.2.2; omega)]
    exact g
  · have hr' : r < vN A 2 0 := hr
    obtain ⟨h1, h2, h3, h4, h5, h6, h7, h8⟩ := hJ.2.2 r hr'
    have ho : vN (sL A 1 0 m) 17 r < 16 := (hJ.1 r (by omega)).2.1
    exact ⟨h1, h2, h3, h4, h5, tw_ne (by omega) h6, tw_ne (by omega) h7, tw_ne (by omega) h8⟩
  · have hr' : r < vN A 4 0 := hr
    have hk := hK.2 r hr'
    have ho : vN (sL A 1 0 m) 18 r < 32 := (hK.1 r (by omega)).2.1
    exact ⟨hk.1, hk.2.1, tw_ne (by omega) hk.2.2.1, hk.2.2.2⟩
theorem wx_PNAME {T σ : z_St} {A : w_A} (h : w_X T σ A) (hl : vN A 2 0 ≤ 16) (hkp : vN A 4 0 ≤ 32) {p : Nat} (hp : p < 4) {m : List Int32} {f : Nat → Int32} (hf : ∀ k, (h : k < m.length) → f k = m[k]) : w_X T (x_tw σ (276 + p) m.length f) (sL A 2 p m) := by
  obtain ⟨hT, hA, hB, hC, hD, hE, hF, hG, hH, hI, hJ, hK, hL, hM, hN⟩ := h
  obtain ⟨g1, g2, g3, g4⟩ := hG
  refine ⟨x_T_rI (x_T_wI hT (z_isM_dec _ rfl)) (z_isM_dec _ rfl), tw_A (by omega) (by omega) hA, hB, hC, hD, hE, hF, ⟨?_, ?_, fun q hq => ?_, fun q hq => ?_⟩, hH, hI, ⟨hJ.1, ⟨fun t ht => ?_, hJ.2.1.2⟩, fun r hr => ?_⟩, ⟨hK.1, fun r hr => ?_⟩, hL, hM, hN⟩
  · exact tw_ne (by omega) g1
  · exact tw_ne (by omega) g2
  · show x_txt (x_tw σ (276 + p) m.length f) (276 + q) (vL (sL A 2 p m) 2 q)
    rw [vL_sL]
    by_cases e : q = p
    · subst e
      rw [if_pos ⟨rfl, rfl⟩]
      exact tw_eq hf
    · rw [if_neg (fun g => e g.2)]
      exact tw_ne (by omega) (g3 q hq)
  · obtain ⟨q1, q2, q3⟩ := g4 q hq
    exact ⟨tw_ne (by omega) q1, tw_ne (by omega) q2, tw_ne (by omega) q3⟩
  · obtain ⟨n, hn, g⟩ := hJ.2.1.1 t ht
    refine ⟨n, hn, ?_⟩
    show gI (wI σ 1 1 _ _) 1 1 (4 + t) = _
    rw [gI_wI, if_neg (fun g => by have := g.2.2; omega)]
    exact g
  · have hr' : r < vN A 2 0 := hr
    obtain ⟨h1, h2, h3, h4, h5, h6, h7, h8⟩ := hJ.2.2 r hr'
    have ho : vN (sL A 2 p m) 17 r < 16 := (hJ.1 r (by omega)).2.1
    exact ⟨h1, h2, h3, h4, h5, tw_ne (by omega) h6, tw_ne (by omega) h7, tw_ne (by omega) h8⟩
  · have hr' : r < vN A 4 0 := hr
    have hk := hK.2 r hr'
    have ho : vN (sL A 2 p m) 18 r < 32 := (hK.1 r (by omega)).2.1
    exact ⟨hk.1, hk.2.1, tw_ne (by omega) hk.2.2.1, hk.2.2.2⟩
theorem wx_QNAME {T σ : z_St} {A : w_A} (h : w_X T σ A) (hl : vN A 2 0 ≤ 16) (hkp : vN A 4 0 ≤ 32) {i : Nat} (hp : i < 64) {m : List Int32} {f : Nat → Int32} (hf : ∀ k, (h : k < m.length) → f k = m[k]) : w_X T (x_tw σ (52 + 3 * i) m.length f) (sL A 7 i m) := by
  obtain ⟨hT, hA, hB, hC, hD, hE, hF, hG, hH, hI, hJ, hK, hL, hM, hN⟩ := h
  obtain ⟨g1, g2, g3, g4⟩ := hG
  refine ⟨x_T_rI (x_T_wI hT (z_isM_dec _ rfl)) (z_isM_dec _ rfl), tw_A (by omega) (by omega) hA, hB, hC, hD, hE, hF, ⟨?_, ?_, fun q hq => ?_, fun q hq => ?_⟩, hH, hI, ⟨hJ.1, ⟨fun t ht => ?_, hJ.2.1.2⟩, fun r hr => ?_⟩, ⟨hK.1, fun r hr => ?_⟩, hL, hM, hN⟩
  · exact tw_ne (by omega) g1
  · exact tw_ne (by omega) g2
  · exact tw_ne (by omega) (g3 q hq)
  · obtain ⟨q1, q2, q3⟩ := g4 q hq
    refine ⟨?_, tw_ne (by omega) q2, tw_ne (by omega) q3⟩
    show x_txt (x_tw σ (52 + 3 * i) m.length f) (52 + 3 * q) (vL (sL A 7 i m) 7 q)
    rw [vL_sL]
    by_cases e : q = i
    · subst e
      rw [if_pos ⟨rfl, rfl⟩]
      exact tw_eq hf
    · rw [if_neg (fun g => e g.2)]
      exact tw_ne (by omega) q1
  · obtain ⟨n, hn, g⟩ := hJ.2.1.1 t ht
    refine ⟨n, hn, ?_⟩
    show gI (wI σ 1 1 _ _) 1 1 (4 + t) = _
    rw [gI_wI, if_neg (fun g => by have := g.2.2; omega)]
    exact g
  · have hr' : r < vN A 2 0 := hr
    obtain ⟨h1, h2, h3, h4, h5, h6, h7, h8⟩ := hJ.2.2 r hr'
    have ho : vN (sL A 7 i m) 17 r < 16 := (hJ.1 r (by omega)).2.1
    exact ⟨h1, h2, h3, h4, h5, tw_ne (by omega) h6, tw_ne (by omega) h7, tw_ne (by omega) h8⟩
  · have hr' : r < vN A 4 0 := hr
    have hk := hK.2 r hr'
    have ho : vN (sL A 7 i m) 18 r < 32 := (hK.1 r (by omega)).2.1
    exact ⟨hk.1, hk.2.1, tw_ne (by omega) hk.2.2.1, hk.2.2.2⟩
theorem wx_QHOST {T σ : z_St} {A : w_A} (h : w_X T σ A) (hl : vN A 2 0 ≤ 16) (hkp : vN A 4 0 ≤ 32) {i : Nat} (hp : i < 64) {m : List Int32} {f : Nat → Int32} (hf : ∀ k, (h : k < m.length) → f k = m[k]) : w_X T (x_tw σ (53 + 3 * i) m.length f) (sL A 8 i m) := by
  obtain ⟨hT, hA, hB, hC, hD, hE, hF, hG, hH, hI, hJ, hK, hL, hM, hN⟩ := h
  obtain ⟨g1, g2, g3, g4⟩ := hG
  refine ⟨x_T_rI (x_T_wI hT (z_isM_dec _ rfl)) (z_isM_dec _ rfl), tw_A (by omega) (by omega) hA, hB, hC, hD, hE, hF, ⟨?_, ?_, fun q hq => ?_, fun q hq => ?_⟩, hH, hI, ⟨hJ.1, ⟨fun t ht => ?_, hJ.2.1.2⟩, fun r hr => ?_⟩, ⟨hK.1, fun r hr => ?_⟩, hL, hM, hN⟩
  · exact tw_ne (by omega) g1
  · exact tw_ne (by omega) g2
  · exact tw_ne (by omega) (g3 q hq)
  · obtain ⟨q1, q2, q3⟩ := g4 q hq
    refine ⟨tw_ne (by omega) q1, ?_, tw_ne (by omega) q3⟩
    show x_txt (x_tw σ (53 + 3 * i) m.length f) (53 + 3 * q) (vL (sL A 8 i m) 8 q)
    rw [vL_sL]
    by_cases e : q = i
    · subst e
      rw [if_pos ⟨rfl, rfl⟩]
      exact tw_eq hf
    · rw [if_neg (fun g => e g.2)]
      exact tw_ne (by omega) q2
  · obtain ⟨n, hn, g⟩ := hJ.2.1.1 t ht
    refine ⟨n, hn, ?_⟩
    show gI (wI σ 1 1 _ _) 1 1 (4 + t) = _
    rw [gI_wI, if_neg (fun g => by have := g.2.2; omega)]
    exact g
  · have hr' : r < vN A 2 0 := hr
    obtain ⟨h1, h2, h3, h4, h5, h6, h7, h8⟩ := hJ.2.2 r hr'
    have ho : vN (sL A 8 i m) 17 r < 16 := (hJ.1 r (by omega)).2.1
    exact ⟨h1, h2, h3, h4, h5, tw_ne (by omega) h6, tw_ne (by omega) h7, tw_ne (by omega) h8⟩
  · have hr' : r < vN A 4 0 := hr
    have hk := hK.2 r hr'
    have ho : vN (sL A 8 i m) 18 r < 32 := (hK.1 r (by omega)).2.1
    exact ⟨hk.1, hk.2.1, tw_ne (by omega) hk.2.2.1, hk.2.2.2⟩
theorem wx_QREALM {T σ : z_St} {A : w_A} (h : w_X T σ A) (hl : vN A 2 0 ≤ 16) (hkp : vN A 4 0 ≤ 32) {i : Nat} (hp : i < 64) {m : List Int32} {f : Nat → Int32} (hf : ∀ k, (h : k < m.length) → f k = m[k]) : w_X T (x_tw σ (54 + 3 * i) m.length f) (sL A 9 i m) := by
  obtain ⟨hT, hA, hB, hC, hD, hE, hF, hG, hH, hI, hJ, hK, hL, hM, hN⟩ := h
  obtain ⟨g1, g2, g3, g4⟩ := hG
  refine ⟨x_T_rI (x_T_wI hT (z_isM_dec _ rfl)) (z_isM_dec _ rfl), tw_A (by omega) (by omega) hA, hB, hC, hD, hE, hF, ⟨?_, ?_, fun q hq => ?_, fun q hq => ?_⟩, hH, hI, ⟨hJ.1, ⟨fun t ht => ?_, hJ.2.1.2⟩, fun r hr => ?_⟩, ⟨hK.1, fun r hr => ?_⟩, hL, hM, hN⟩
  · exact tw_ne (by omega) g1
  · exact tw_ne (by omega) g2
  · exact tw_ne (by omega) (g3 q hq)
  · obtain ⟨q1, q2, q3⟩ := g4 q hq
    refine ⟨tw_ne (by omega) q1, tw_ne (by omega) q2, ?_⟩
    show x_txt (x_tw σ (54 + 3 * i) m.length f) (54 + 3 * q) (vL (sL A 9 i m) 9 q)
    rw [vL_sL]
    by_cases e : q = i
    · subst e
      rw [if_pos ⟨rfl, rfl⟩]
      exact tw_eq hf
    · rw [if_neg (fun g => e g.2)]
      exact tw_ne (by omega) q3
  · obtain ⟨n, hn, g⟩ := hJ.2.1.1 t ht
    refine ⟨n, hn, ?_⟩
    show gI (wI σ 1 1 _ _) 1 1 (4 + t) = _
    rw [gI_wI, if_neg (fun g => by have := g.2.2; omega)]
    exact g
  · have hr' : r < vN A 2 0 := hr
    obtain ⟨h1, h2, h3, h4, h5, h6, h7, h8⟩ := hJ.2.2 r hr'
    have ho : vN (sL A 9 i m) 17 r < 16 := (hJ.1 r (by omega)).2.1
    exact ⟨h1, h2, h3, h4, h5, tw_ne (by omega) h6, tw_ne (by omega) h7, tw_ne (by omega) h8⟩
  · have hr' : r < vN A 4 0 := hr
    have hk := hK.2 r hr'
    have ho : vN (sL A 9 i m) 18 r < 32 := (hK.1 r (by omega)).2.1
    exact ⟨hk.1, hk.2.1, tw_ne (by omega) hk.2.2.1, hk.2.2.2⟩
/-- text t becomes a copy of text s -/
theorem xc_copy_ {σ : z_St} {s t : Nat} {l : List Int32} (hs : x_txt σ s l) (hl : l.length ≤ 40) (hp : ∀ i, gR σ 1 0 i = some (80741649, i)) (hne : ¬ s = t) {d : Nat} {Q : z_St → Option z_V → Prop} (k : ∀ f, (∀ k, (h : k < l.length) → f k = l[k]) → Q (x_tw σ t l.length f) none) : wp (zD (d + 1) 241 [.inr (.inr (some (1, t))), .inr (.inr (some (1, s)))] σ) Q := by
  have hq : ∀ i, gR (wI σ 1 1 t (Int32.ofNat l.length)) 1 0 i = some (80741649, i) := hp
  have e1 : gI (wI σ 1 1 t (Int32.ofNat l.length)) 1 1 t = Int32.ofNat l.length := by rw [gI_wI, if_pos ⟨rfl, rfl, rfl⟩]
  have a2 := alen_80741649
  refine wp_eq (c241 ..) (wp_eq (e241_0 ..) (wp_dr rfl (wp_gd rfl (wp_sw ?_))))
  dsimp only
  rw [hs.1]
  refine wp_dr rfl (wp_gd rfl (wp_dr (hq t) (wp_dr (hq s) (wp_gd ⟨aty_80741649, aty_80741649⟩ (wp_gd ?_ (wp_sw (wp_ret ?_)))))))
  · rw [e1]
    refine ⟨by decide, by decide, io_neg (by omega), ?_, ?_⟩
    · rw [show (0 : Int32).toNatClampNeg = 0 from rfl, io_nat (by omega)]; show 0 + _ ≤ aLen 80741649; rw [a2]; omega
    · rw [show (0 : Int32).toNatClampNeg = 0 from rfl, io_nat (by omega)]; show 0 + _ ≤ aLen 80741649; rw [a2]; omega
  · dsimp only
    rw [e1, show (0 : Int32).toNatClampNeg = 0 from rfl, io_nat (by omega)]
    refine k _ fun i hi => ?_
    show va_cpy (gI σ 80741649 s) _ 0 0 _ i = _
    unfold va_cpy
    rw [if_pos (by omega), show 0 + (i - 0) = i by omega]
    exact hs.2 i hi
/-- the name at hand is put away -/
theorem wx_AT0 {T σ : z_St} {A : w_A} (h : w_X T σ A) (hl : vN A 2 0 ≤ 16) (hkp : vN A 4 0 ≤ 32) : w_X T (wI σ 1 1 0 0) (sL A 0 0 []) := by
  have := wx_AT h hl hkp (m := []) (f := gI σ 80741649 0) (fun k h => absurd h (Nat.not_lt_zero k))
  have e : x_tw σ 0 ([] : List Int32).length (gI σ 80741649 0) = wI σ 1 1 0 0 := rI_id (wI σ 1 1 0 0) 80741649 0
  rw [e] at this
  exact this
theorem xc_clear_ {σ : z_St} {t : Nat} {d : Nat} {Q : z_St → Option z_V → Prop} (k : Q (wI σ 1 1 t 0) none) : wp (zD (d + 1) 239 [.inr (.inr (some (1, t)))] σ) Q := wp_eq (c239 ..) (wp_eq (e239_0 ..) (wp_sw (wp_ret k)))
theorem xc_clear {T σ : z_St} {A : w_A} (h : w_X T σ A) (hl : vN A 2 0 ≤ 16) (hkp : vN A 4 0 ≤ 32) {d : Nat} {Q : z_St → Option z_V → Prop} (k : ∀ σ, w_X T σ (sL A 0 0 []) → Q σ none) : wp (zD (d + 1) 239 [.inr (.inr (some (1, 0)))] σ) Q :=
  wp_eq (c239 ..) (wp_eq (e239_0 ..) (wp_sw (wp_ret (k _ (wx_AT0 h hl hkp)))))
theorem xc_add {T σ : z_St} {A : w_A} (hX : w_X T σ A) (hl : vN A 2 0 ≤ 16) (hkp : vN A 4 0 ≤ 32) (h40 : (vL A 0 0).length < 40) {x : Int32} {d : Nat} {Q : z_St → Option z_V → Prop} (k : ∀ σ, w_X T σ (sL A 0 0 (vL A 0 0 ++ [nb x])) → Q σ none) : wp (zD (d + 1) 240 [.inr (.inr (some (1, 0))), .inl x] σ) Q := by
  have ht := rx_AT hX
  refine wp_eq (c240 ..) (wp_eq (e240_0 ..) (wp_sw (wp_dr (rx_p1_0 hX 0) (wp_gd aty_80741649 (wp_gd ?_ (wp_sw (wp_ret (k _ ?_))))))))
  · show zin (gI σ 1 1 0) (aLen 80741649)
    rw [ht.1, alen_80741649]
    exact zin_io (by omega) (by decide)
  · dsimp only
    rw [ht.1, io_add_l, io_nat (by omega), nb_un, nb_un, nb_nb]
    have := wx_AT hX hl hkp (m := vL A 0 0 ++ [nb x]) (f := va_up (gI σ 80741649 0) (vL A 0 0).length (nb x)) (fun k hk => by
      unfold va_up
      by_cases e : k = (vL A 0 0).length
      · subst e
        rw [if_pos rfl]
        simp
      · have hk2 : k < (vL A 0 0).length := by
          rw [List.length_append, List.length_singleton] at hk
          omega
        rw [if_neg e, List.getElem_append_left hk2]
        exact ht.2 k hk2)
    rw [List.length_append, List.length_singleton] at this
    exact this
