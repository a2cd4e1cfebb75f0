/-! PART 91b (src 91b.xpeers.src): the component's peers at a second -/
set_option maxHeartbeats 400000
def z_tbd (A : w_A) : Prop := ∀ p, vN A 8 p ≤ vN A 5 0 + 30 ∧ vN A 7 p ≤ vN A 5 0 + 10
theorem fr_tb {A B : w_A} (f : z_fr A B) (h : z_tbd A) : z_tbd B := by
  obtain ⟨f1, f2, f3, f4, f5, f6, f7, f8⟩ := f
  have hn : vN B 5 0 = vN A 5 0 := f4 _ _ (.inl (by decide))
  intro p
  rw [hn]
  have := h p
  refine ⟨?_, ?_⟩
  · rcases f7 p with e | e <;> rw [e] <;> omega
  · rcases f8 p with ⟨-, e⟩ | e <;> rw [e] <;> omega
theorem pts_s (f p : Nat) (A : w_A) (d : Nat) : fn_pts (f + 1) p A d = fn_pts f (p + 1) (fn_pt A p).1 (d + (fn_pt A p).2) := rfl
theorem xl_peersAt {T : z_St} {d : Nat} {Q : z_St → Option z_V → Prop} : ∀ (f p n dn : Nat) (A : w_A) (σ : z_St), p + f = vN A 0 0 → w_X T σ A → z_C n A → z_tbd A → n + 128 * f < 2147483648 → (∀ σ, w_X T σ (fn_pts f p A dn).1 → Q σ (some (.inl (Int32.ofNat (fn_pts f p A dn).2)))) →
    wp (E xP68 (zD (d + 10)) 1 [some (.inr (.inr (some (0, 0)))), some (.inl (Int32.ofNat dn)), some (.inl (Int32.ofNat p)), none] [] σ) Q
  | 0, p, n, dn, A, σ, hf, hX, hC, ht, hn, k => by
    have hp4 := hC.1.1.1.1
    refine wp_eq (e68_1 ..) (wp_if (fun h => ?_) (fun h => ?_)) <;> rw [rx_PEERS hX, io_le (by omega) (by omega)] at h
    · exact wp_eq (e68_8 ..) (wp_ret (k σ hX))
    · omega
  | f + 1, p, n, dn, A, σ, hf, hX, hC, ht, hn, k => by
    have hb := hC.1.1.1
    have hp : p < 4 := by omega
    have hp31 : p < 2147483648 := by omega
    have hpp : p < vN A 0 0 := by omega
    have hpj := ((rx_F hX).1 p (by omega)).1
    rw [pts_s] at k
    have hC2 := C_pt hC (by omega) hp hpp
    have hfr := fr_pt A p
    have ht2 := fr_tb hfr ht
    have hP2 : vN (fn_pt A p).1 0 0 = vN A 0 0 := hfr.2.2.2.1 _ _ (.inl (by decide))
    have k7 : ∀ σ, w_X T σ (fn_pt A p).1 → wp (E xP68 (zD (d + 10)) 7 [some (.inr (.inr (some (0, 0)))), some (.inl (Int32.ofNat (dn + (fn_pt A p).2))), some (.inl (Int32.ofNat p)), none] [] σ) Q := by
      intro σ hX
      refine wp_eq (e68_7 ..) ?_
      rw [io_add_l]
      exact xl_peersAt f (p + 1) (n + 128) _ _ σ (by omega) hX hC2 ht2 (by omega) k
    have k5 : ∀ (r : w_A × Nat) σ, r = (if fn_given A p ∧ vN A 7 p = vN A 5 0 then (fn_shut A p, 1) else (A, 0) : w_A × Nat) → w_X T σ r.1 → wp (E xP68 (zD (d + 10)) 5 [some (.inr (.inr (some (0, 0)))), some (.inl (Int32.ofNat (dn + r.2))), some (.inl (Int32.ofNat p)), some (.inr (.inr (some (9, p))))] [] σ) Q := by
      intro r σ hr hX
      have hrC : z_C (n + 64) r.1 := by
        rw [hr]
        split
        · exact C_shut hp (by omega) (C_H hC hp)
        · exact C_mono (by omega) hC
      have hrf : z_fr A r.1 := by
        rw [hr]
        split
        · exact fr_shut A p
        · exact fr_refl A
      have hrt := fr_tb hrf ht p
      have hrn := hrC.1.1.1.2.2.2.2.2
      have hpt : fn_pt A p = if vN r.1 8 p = vN r.1 5 0 then (fn_ring r.1 p, r.2 + 1) else r := by
        rw [show vN r.1 5 0 = vN A 5 0 from hrf.2.2.2.1 _ _ (.inl (by decide)), hr]
        rfl
      rw [hpt] at k7
      refine wp_eq (e68_5 ..) (wp_dr rfl (wp_gd rfl (wp_if (fun h => ?_) (fun h => ?_)))) <;> dsimp only at h <;> rw [rx_DUE hX p, rx_NOW hX, io_inj (by omega) (by omega)] at h
      · rw [if_pos h] at k7
        refine wp_eq (e68_6 ..) (wp_cv (xc_timer (d := d) hX hp hrC.1 (hrC.2.2.1 p).mp (by omega) fun σ hX => ⟨rfl, ?_⟩))
        rw [io_add_l]
        exact k7 σ hX
      · rw [if_neg h] at k7
        exact k7 σ hX
    have hn2 := hb.2.2.2.2.2
    have htp := ht p
    refine wp_eq (e68_1 ..) (wp_if (fun h => ?_) (fun h => ?_)) <;> rw [rx_PEERS hX, io_le (by omega) (by omega)] at h
    · omega
    refine wp_eq (e68_2 ..) (wp_dr (rx_p0_7 hX) (wp_gd (by rw [aty_2097301]; decide) (wp_gd (by rw [alen_2097301]; exact zin_io (by omega) (by decide)) ?_)))
    dsimp only
    rw [io_nat hp31, hpj]
    refine wp_dr rfl (wp_gd rfl (wp_cr (xc_isGivenTime (d := d + 8) hX fun σ v hX hv => ⟨_, hv, wp_asI0 ?_⟩)))
    refine wp_if (fun q => ?_) (fun q => ?_) <;> rw [b2i_0] at q
    · exact k5 (A, 0) σ (by rw [if_neg (fun g => q g.1)]) hX
    refine wp_eq (e68_3 ..) (wp_dr rfl (wp_gd rfl (wp_if (fun h => ?_) (fun h => ?_)))) <;> dsimp only at h <;> rw [rx_LIM hX p, rx_NOW hX, io_inj (by omega) (by omega)] at h
    · refine wp_eq (e68_4 ..) (wp_cv (xc_shut (d := d + 1) hX (I_p hC.1 p) (by omega) fun σ hX => ⟨rfl, ?_⟩))
      rw [io_add_l]
      exact k5 (fn_shut A p, 1) σ (by rw [if_pos ⟨Classical.not_not.mp q, h⟩]) hX
    · exact k5 (A, 0) σ (by rw [if_neg (fun g => h g.2)]) hX
theorem xc_peersAt {T σ : z_St} {A : w_A} (hX : w_X T σ A) {n : Nat} (hC : z_C n A) (ht : z_tbd A) (hn : n + 512 < 2147483648) {d : Nat} {Q : z_St → Option z_V → Prop} (k : ∀ σ, w_X T σ (fn_pts (vN A 0 0) 0 A 0).1 → Q σ (some (.inl (Int32.ofNat (fn_pts (vN A 0 0) 0 A 0).2)))) : wp (zD (d + 11) 68 [.inr (.inr (some (0, 0)))] σ) Q :=
  wp_eq (c68 ..) (wp_eq (e68_0 ..) (xl_peersAt (d := d) (vN A 0 0) 0 n 0 A σ (by omega) hX hC ht (by have := hC.1.1.1.1; omega) k))
