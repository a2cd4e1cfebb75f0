/-! PART 91d (src 91d.mpeers.src): the twin's peers at a second -/
set_option maxHeartbeats 400000
theorem ml_peers {T : z_St} {d : Nat} {x1 : Int32} {Q : z_St → Option z_V → Prop} : ∀ (f p n dn : Nat) (A : w_A) (σ : z_St), p + f = vN A 0 0 → w_M T σ A → z_C n A → z_tbd A → z_tq p A → n + 128 * f < 2147483648 → (∀ σ, w_M T σ (fn_pts f p A dn).1 → wp (E xP171 (zD (d + 9)) 17 [some (.inr (.inr (some (8, 0)))), some (.inl x1), some (.inl (Int32.ofNat (fn_pts f p A dn).2)), none, none] [] σ) Q) →
    wp (E xP171 (zD (d + 9)) 6 [some (.inr (.inr (some (8, 0)))), some (.inl x1), some (.inl (Int32.ofNat dn)), some (.inl (Int32.ofNat p)), none] [] σ) Q
  | 0, p, n, dn, A, σ, hf, hM, hC, hb, hq, hn, k => by
    have hp4 := hC.1.1.1.1
    refine wp_eq (e171_6 ..) (wp_if (fun h => ?_) (fun h => ?_)) <;> rw [rm_PEERS hM, io_le (by omega) (by omega)] at h
    · exact k σ hM
    · omega
  | f + 1, p, n, dn, A, σ, hf, hM, hC, hb, hq, hn, k => by
    have hbb := hC.1.1.1
    have hp : p < 4 := by omega
    have hp31 : p < 2147483648 := by omega
    have hpp : p < vN A 0 0 := by omega
    rw [pts_s] at k
    have hC2 := C_pt hC (by omega) hp hpp
    have hfr := fr_pt A p
    have hP2 : vN (fn_pt A p).1 0 0 = vN A 0 0 := hfr.2.2.2.1 _ _ (.inl (by decide))
    have k16 : ∀ σ, w_M T σ (fn_pt A p).1 → wp (E xP171 (zD (d + 9)) 16 [some (.inr (.inr (some (8, 0)))), some (.inl x1), some (.inl (Int32.ofNat (dn + (fn_pt A p).2))), some (.inl (Int32.ofNat p)), none] [] σ) Q := by
      intro σ hM
      refine wp_eq (e171_16 ..) ?_
      rw [io_add_l]
      exact ml_peers f (p + 1) (n + 128) _ _ σ (by omega) hM hC2 (fr_tb hfr hb) (pt_tq hq hpp) (by omega) k
    have k14 : ∀ (r : w_A × Nat) σ, r = (if fn_given A p ∧ vN A 7 p = vN A 5 0 then (fn_shut A p, 1) else (A, 0) : w_A × Nat) → w_M T σ r.1 → wp (E xP171 (zD (d + 9)) 14 [some (.inr (.inr (some (8, 0)))), some (.inl x1), some (.inl (Int32.ofNat (dn + r.2))), some (.inl (Int32.ofNat p)), none] [] σ) Q := by
      intro r σ hr hM
      have hrC : z_C (n + 64) r.1 := by
        rw [hr]
        split
        · exact C_shut hp (by omega) (C_H hC hp)
        · exact C_mono (by omega) hC
      have hrf : z_fr A r.1 := by
        rw [hr]
        split
        · exact fr_shut A p
        · exact fr_refl A
      have hrt := fr_tb hrf hb p
      have hrn := hrC.1.1.1.2.2.2.2.2
      have hrq := ((fr_tq hrf hq p (by rw [hrf.2.2.2.1 _ _ (.inl (by decide))]; exact hpp)).2 (Nat.le_refl p)).1
      have hpt : fn_pt A p = if vN r.1 8 p = vN r.1 5 0 then (fn_ring r.1 p, r.2 + 1) else r := by
        rw [show vN r.1 5 0 = vN A 5 0 from hrf.2.2.2.1 _ _ (.inl (by decide)), hr]
        rfl
      rw [hpt] at k16
      refine wp_eq (e171_14 ..) (wp_ar (rm_p17 hM) aty_18874512 alen_18874512 rfl (by omega) (by decide) ?_)
      dsimp only
      rw [io_nat hp31, rm_NOW hM, rm_DUE hM]
      refine wp_if (fun h => ?_) (fun h => ?_) <;> rw [io_lt (by omega) (by omega)] at h
      · rw [if_neg (by omega)] at k16
        exact k16 σ hM
      · rw [if_pos (by omega)] at k16
        refine wp_eq (e171_15 ..) (wp_cv (mc_ring (d := d) hM hp hrC.1 (C_Sp hrC hp) (hrC.2.2.1 p).mp (by omega) fun σ hM => ⟨rfl, ?_⟩))
        rw [io_add_l]
        exact k16 σ hM
    have hn2 := hbb.2.2.2.2.2
    have hbp := hb p
    have hqp := (hq p hpp).2 (Nat.le_refl p)
    have k11 : ∀ v : Int32, (v = 0 ↔ ¬ fn_given A p) → wp (E xP171 (zD (d + 9)) 11 [some (.inr (.inr (some (8, 0)))), some (.inl x1), some (.inl (Int32.ofNat dn)), some (.inl (Int32.ofNat p)), none] [.inl v] σ) Q := by
      intro v hv
      refine wp_eq (e171_11 ..) (wp_if (fun h => ?_) (fun h => ?_))
      · exact k14 (A, 0) σ (by rw [if_neg (fun g => hv.mp h g.1)]) hM
      have hg : fn_given A p := Classical.byContradiction fun g => h (hv.mpr g)
      have hqg := hqp.2 hg
      refine wp_eq (e171_12 ..) (wp_ar (rm_p12 hM) aty_13631632 alen_13631632 rfl (by omega) (by decide) ?_)
      dsimp only
      rw [io_nat hp31, rm_NOW hM, rm_LIM hM]
      refine wp_if (fun h => ?_) (fun h => ?_) <;> rw [io_lt (by omega) (by omega)] at h
      · exact k14 (A, 0) σ (by rw [if_neg (fun g => by omega)]) hM
      · refine wp_eq (e171_13 ..) (wp_cv (mc_dropAll (d := d + 1) hM hp (I_p hC.1 p) (C_Sp hC hp) (by omega) fun σ hM => ⟨rfl, ?_⟩))
        rw [io_add_l]
        exact k14 (fn_shut A p, 1) σ (by rw [if_pos ⟨hg, by omega⟩]) hM
    refine wp_eq (e171_6 ..) (wp_if (fun h => ?_) (fun h => ?_)) <;> rw [rm_PEERS hM, io_le (by omega) (by omega)] at h
    · omega
    have hps := (hC.2.1.1 p hp).2.2
    refine wp_eq (e171_7 ..) (wp_ar (rm_p11 hM) aty_12583056 alen_12583056 rfl (by omega) (by decide) ?_)
    dsimp only
    rw [io_nat hp31, rm_ST hM]
    have yes : (vI A 0 p = 1 ∨ vI A 0 p = 2 ∨ vI A 0 p = 3 ∨ vI A 0 p = 4 ∨ vI A 0 p = 7) → fn_given A p := by
      intro h
      unfold fn_given fn_up
      rcases h with h | h | h | h | h <;> rw [h] <;> decide
    refine wp_cr (mc_in (d := d + 8) fun v hv => ⟨_, hv, wp_asI0 ?_⟩)
    refine wp_if (fun q => ?_) (fun q => ?_) <;> rw [b2i_0] at q
    · refine wp_eq (e171_8 ..) (wp_ar (rm_p11 hM) aty_12583056 alen_12583056 rfl (by omega) (by decide) ?_)
      refine wp_if (fun h7 => ?_) (fun h7 => ?_) <;> (dsimp only at h7; rw [io_nat hp31, rm_ST hM] at h7)
      · exact wp_eq (e171_9 ..) (k11 1 ⟨fun g => absurd g (by decide), fun g => absurd (yes (.inr (.inr (.inr (.inr h7))))) g⟩)
      · refine wp_eq (e171_10 ..) (k11 0 ⟨fun _ g => ?_, fun _ => rfl⟩)
        unfold fn_given fn_up at g
        rcases hps with s | s | s | s | s | s | s | s
        · exact g.1 s.1
        · rw [s.1] at q; exact q (by decide)
        · rw [s.1] at q; exact q (by decide)
        · rw [s.1] at q; exact q (by decide)
        · rw [s.1] at q; exact q (by decide)
        · exact g.2 (.inl s.1)
        · exact g.2 (.inr s.1)
        · exact h7 s.1
    · have q := Classical.not_not.mp q
      refine wp_eq (e171_9 ..) (k11 1 ⟨fun g => absurd g (by decide), fun g => absurd (yes ?_) g⟩)
      rcases hps with s | s | s | s | s | s | s | s
      · rw [s.1] at q; exact absurd q (by decide)
      · exact .inl s.1
      · exact .inr (.inl s.1)
      · exact .inr (.inr (.inl s.1))
      · exact .inr (.inr (.inr (.inl s.1)))
      · rw [s.1] at q; exact absurd q (by decide)
      · rw [s.1] at q; exact absurd q (by decide)
      · rw [s.1] at q; exact absurd q (by decide)
