/-! PART 47 (src 47.xenter.src): the component's questions, its peers' states -/
set_option maxHeartbeats 400000
theorem fn_first_s (n : Nat) (f : Nat → Bool) : fn_first (n + 1) f = (fn_first n f).or (if f n = true then some n else none) := by
  unfold fn_first
  rw [List.range_succ, List.find?_append]
  congr 1
  by_cases h : f n = true
  · simp [h]
  · simp [h]
/-- the first one from a place on -/
def fn_from (f : Nat → Bool) : Nat → Nat → Option Nat
  | 0, _ => none
  | r + 1, i => if f i = true then some i else fn_from f r (i + 1)
theorem fn_first_from (n : Nat) (f : Nat → Bool) : fn_first n f = fn_from f n 0 := by
  have key : ∀ r i, (List.range' i r).find? f = fn_from f r i := by
    intro r
    induction r with
    | zero => intro i; rfl
    | succ r ih =>
      intro i
      rw [List.range'_succ, List.find?_cons, fn_from]
      by_cases h : f i = true
      · rw [h, if_pos rfl]
      · rw [if_neg h, ← ih (i + 1)]
        simp [h]
  unfold fn_first
  rw [List.range_eq_range', key]
theorem fn_from_some {f : Nat → Bool} : ∀ {r i k : Nat}, fn_from f r i = some k → i ≤ k ∧ k < i + r ∧ f k = true
  | 0, _, _, h => by cases h
  | r + 1, i, k, h => by
    rw [fn_from] at h
    by_cases g : f i = true
    · rw [if_pos g] at h
      cases h
      exact ⟨Nat.le_refl _, by omega, g⟩
    · rw [if_neg g] at h
      have := fn_from_some h
      exact ⟨by omega, by omega, this.2.2⟩
theorem fn_first_some {n : Nat} {f : Nat → Bool} {k : Nat} (h : fn_first n f = some k) : k < n ∧ f k = true := by
  rw [fn_first_from] at h
  have := fn_from_some h
  exact ⟨by omega, this.2.2⟩
theorem fn_usable_some {A : w_A} {k : Nat} (h : fn_usable A = some k) : k < vN A 0 0 ∧ fn_us A k := by
  have := fn_first_some h
  exact ⟨this.1, of_decide_eq_true this.2⟩
theorem xl_usable {T σ : z_St} {A : w_A} (hX : w_X T σ A) {d n : Nat} (hB : z_B n A) {Q : z_St → Option z_V → Prop} (k : ∀ σ v, w_X T σ A → v = some (.inr (.inr ((fn_usable A).map fun p => (9, p)))) → Q σ v) : ∀ (r i : Nat) (σ : z_St), w_X T σ A → i + r = vN A 0 0 → fn_usable A = fn_from (fun p => decide (fn_us A p)) r i →
    wp (E xP43 (zD (d + 2)) 1 [some (.inr (.inr (some (0, 0)))), some (.inl (Int32.ofNat i))] [] σ) Q
  | 0, i, σ, hX, hi, hf => by
    have hb := hB.1.1
    refine wp_eq (e43_1 ..) (wp_if (fun hc => ?_) (fun hc => ?_)) <;> rw [rx_PEERS hX, io_le (by omega) (by omega)] at hc
    · refine wp_eq (e43_5 ..) (wp_ret (k _ _ hX ?_))
      rw [hf]
      rfl
    · omega
  | r + 1, i, σ, hX, hi, hf => by
    have hb := hB.1.1
    refine wp_eq (e43_1 ..) (wp_if (fun hc => ?_) (fun hc => ?_)) <;> rw [rx_PEERS hX, io_le (by omega) (by omega)] at hc
    · omega
    · have hp := ((rx_F hX).1 i (by omega)).1
      refine wp_eq (e43_2 ..) (wp_dr (rx_p0_7 hX) (wp_gd (by rw [aty_2097301]; decide) (wp_gd ?_ ?_)))
      · rw [alen_2097301]; exact zin_io (by omega) (by omega)
      · rw [io_nat (by omega)]
        refine wp_dr hp (wp_gd rfl (wp_cr (xc_isUsable hX fun σ v hX hv => ⟨_, hv, wp_asI0 ?_⟩)))
        refine wp_if (fun hc => ?_) (fun hc => ?_) <;> rw [b2i_0] at hc
        · refine wp_eq (e43_4 ..) ?_
          rw [io_add_l]
          refine xl_usable hX hB k r (i + 1) σ hX (by omega) ?_
          rw [hf, fn_from, if_neg]
          simpa using hc
        · have hc := Decidable.not_not.mp hc
          refine wp_eq (e43_3 ..) (wp_dr (rx_p0_7 hX) (wp_gd (by rw [aty_2097301]; decide) (wp_gd ?_ (wp_ret (k _ _ hX ?_)))))
          · rw [alen_2097301]; exact zin_io (by omega) (by omega)
          · dsimp only
            rw [io_nat (by omega), ((rx_F hX).1 i (by omega)).1, hf, fn_from, if_pos]
            · rfl
            · simpa using hc
theorem xc_usable {T σ : z_St} {A : w_A} (hX : w_X T σ A) {d n : Nat} (hB : z_B n A) {Q : z_St → Option z_V → Prop} (k : ∀ σ v, w_X T σ A → v = some (.inr (.inr ((fn_usable A).map fun p => (9, p)))) → Q σ v) : wp (zD (d + 3) 43 [.inr (.inr (some (0, 0)))] σ) Q := by
  refine wp_eq (c43 ..) (wp_eq (e43_0 ..) ?_)
  exact xl_usable hX hB k _ 0 σ hX (Nat.zero_add _) (fn_first_from _ _)
/-- the links of peers that are up -/
def z_LK (A : w_A) : Prop := ∀ p, (vI A 0 p = 5 → ¬ vN A 10 p = 0) ∧ (vI A 0 p = 6 → ¬ vN A 9 p = 0)
theorem LK_conn {A : w_A} {n p : Nat} (hB : z_B n A) (hL : z_LK A) (hu : fn_up A p) : fn_conn A p ≤ 8 ∧ ¬ fn_conn A p = 0 := by
  obtain ⟨hO, hC⟩ := hB.2.2.1 p
  unfold fn_conn
  rcases hu with h | h
  · have := (hL p).1 h
    simp [h, this, hC]
  · have := (hL p).2 h
    simp [h, this, hO]
