/-! PART 91e (src 91e.xsess.src): the component's sessions at a second -/
set_option maxHeartbeats 400000
theorem sts_s (f s : Nat) (A : w_A) (d : Nat) : fn_sts (f + 1) s A d = if vI A 21 s = Int32.ofNat (vN A 5 0) then fn_sts f s (fn_remove (fn_settle A s 0) s) (d + 1) else fn_sts f (s + 1) A d := rfl
theorem xl_sessAt {T : z_St} {d : Nat} {Q : z_St → Option z_V → Prop} : ∀ (f s dn : Nat) (A : w_A) (σ : z_St), s + f = vN A 2 0 → vN A 2 0 ≤ 16 → w_X T σ A → (∀ r, r < vN A 2 0 → ¬ vN A 13 r = 0) → (∀ r, r < 16 → ¬ vN A 16 0 = r + 1) → (∀ σ, w_X T σ (fn_sts f s A dn).1 → Q σ (some (.inl (Int32.ofNat (fn_sts f s A dn).2)))) →
    wp (E xP69 (zD (d + 2)) 1 [some (.inr (.inr (some (0, 0)))), some (.inl (Int32.ofNat dn)), some (.inl (Int32.ofNat s)), none] [] σ) Q
  | 0, s, dn, A, σ, hf, h16, hX, ha, hg, k => by
    refine wp_eq (e69_1 ..) (wp_if (fun h => ?_) (fun h => ?_)) <;> rw [rx_SESS hX, io_le (by omega) (by omega)] at h
    · exact wp_eq (e69_5 ..) (wp_ret (k σ hX))
    · omega
  | f + 1, s, dn, A, σ, hf, h16, hX, ha, hg, k => by
    have hs : s < vN A 2 0 := by omega
    have hs31 : s < 2147483648 := by omega
    have so := rx_sobj hX (s := s) (by omega)
    rw [sts_s] at k
    refine wp_eq (e69_1 ..) (wp_if (fun h => ?_) (fun h => ?_)) <;> rw [rx_SESS hX, io_le (by omega) (by omega)] at h
    · omega
    refine wp_eq (e69_2 ..) (wp_dr (rx_p0_11 hX) (wp_gd (by rw [aty_4194839]; decide) (wp_gd (by rw [alen_4194839]; exact zin_io (by omega) (by decide)) ?_)))
    dsimp only
    rw [io_nat hs31, so]
    refine wp_dr rfl (wp_gd rfl ?_)
    dsimp only
    rw [rx_SEND hX hs, rx_NOW hX]
    refine wp_if (fun h => ?_) (fun h => ?_)
    rotate_left
    · rw [if_neg h] at k
      refine wp_eq (e69_3 ..) ?_
      rw [io_add_l]
      exact xl_sessAt f (s + 1) dn A σ (by omega) h16 hX ha hg k
    rw [if_pos h] at k
    refine wp_eq (e69_4 ..) (wp_dr rfl (wp_gd rfl (wp_cv (xc_settle (d := d) hX hs h16 (ha s hs) fun σ hX => ⟨rfl, ?_⟩))))
    have hsB : s < vN (fn_settle A s 0) 2 0 := hs
    have hlB : vN (fn_settle A s 0) 2 0 ≤ 16 := h16
    have hgB : ∀ r, r < 16 → ¬ vN (fn_settle A s 0) 16 0 = r + 1 := hg
    have hoB : vN (fn_settle A s 0) 17 s = vN A 17 s := rfl
    have haB : ∀ r, r < vN (fn_settle A s 0) 2 0 → ¬ vN (fn_settle A s 0) 13 r = 0 := ha
    have hfB : s + (f + 1) = vN (fn_settle A s 0) 2 0 := hf
    rw [← hoB]
    generalize fn_settle A s 0 = B at *
    refine wp_cv (xc_remove (d := d + 1) hX hsB hlB hgB fun σ hX => ⟨rfl, ?_⟩)
    rw [io_add_l]
    have hsn : vN (fn_remove B s) 2 0 = vN B 2 0 - 1 := rfl
    refine xl_sessAt f s (dn + 1) (fn_remove B s) σ (by omega) (by omega) hX (fun r hr => ?_) hgB k
    rw [hsn] at hr
    show ¬ fn_out (vN B 2 0) s (vN B 13) r = 0
    unfold fn_out
    split
    · exact haB (r + 1) (by omega)
    · exact haB r (by omega)
theorem xc_sessionsAt {T σ : z_St} {A : w_A} (hX : w_X T σ A) (h16 : vN A 2 0 ≤ 16) (ha : ∀ r, r < vN A 2 0 → ¬ vN A 13 r = 0) (hg : ∀ r, r < 16 → ¬ vN A 16 0 = r + 1) {d : Nat} {Q : z_St → Option z_V → Prop} (k : ∀ σ, w_X T σ (fn_sts (vN A 2 0) 0 A 0).1 → Q σ (some (.inl (Int32.ofNat (fn_sts (vN A 2 0) 0 A 0).2)))) : wp (zD (d + 3) 69 [.inr (.inr (some (0, 0)))] σ) Q :=
  wp_eq (c69 ..) (wp_eq (e69_0 ..) (xl_sessAt (vN A 2 0) 0 0 A σ (by omega) h16 hX ha hg k))
