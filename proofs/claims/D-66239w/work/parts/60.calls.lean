/-! PART 60 (src 60.calls.src): ranges; the calls start, accept, gone -/
set_option maxHeartbeats 400000
def fn_pk (n : Nat) (x : Int32) : Option Nat := if 1 ≤ x ∧ x ≤ Int32.ofNat n then some (x.toNatClampNeg - 1) else none
theorem pk_some {n p : Nat} {x : Int32} (hn : n < 2147483648) (h : fn_pk n x = some p) : p < n ∧ x = Int32.ofNat (p + 1) := by
  unfold fn_pk at h
  split at h
  · rename_i g
    have h1 := Int32.le_iff_toInt_le.mp g.1
    have h2 := Int32.le_iff_toInt_le.mp g.2
    rw [io_toInt hn] at h2
    have h3 : (1 : Int32).toInt = 1 := rfl
    have h4 : x = Int32.ofNat x.toInt.toNat := by
      apply Int32.toInt_inj.mp
      rw [io_toInt (by omega)]
      omega
    have h5 : x.toNatClampNeg = x.toInt.toNat := by rw [h4, io_nat (by omega), io_toInt (by omega)]; omega
    have h := Option.some.inj h
    refine ⟨by omega, ?_⟩
    rw [h4]
    congr 1
    omega
  · cases h
theorem pk_none {n : Nat} {x : Int32} (h : fn_pk n x = none) : ¬ (1 ≤ x ∧ x ≤ Int32.ofNat n) := by
  unfold fn_pk at h
  split at h
  · cases h
  · assumption
theorem pk_is {n : Nat} {x : Int32} : (fn_pk n x).isSome = true ↔ (1 ≤ x ∧ x ≤ Int32.ofNat n) := by
  unfold fn_pk
  split <;> simp [*]
theorem lg_lt (x y : Int64) : (lg_cmp x y < 0) = (x < y) := by
  unfold lg_cmp
  refine propext ⟨fun h => ?_, fun h => ?_⟩
  · split at h
    · exact absurd h (by decide)
    · rename_i g
      split at h
      · exact absurd h (by decide)
      · rename_i e
        exact Int64.lt_of_le_of_ne (Int64.not_lt.mp g) e
  · rw [if_neg (fun g => Int64.lt_irrefl (Int64.lt_trans h g)), if_neg (fun e => by rw [e] at h; exact Int64.lt_irrefl h)]
    decide
theorem lg_gt (x y : Int64) : (0 < lg_cmp x y) = (y < x) := by
  unfold lg_cmp
  refine propext ⟨fun h => ?_, fun h => ?_⟩
  · split at h
    · assumption
    · split at h <;> exact absurd h (by decide)
  · rw [if_pos h]
    decide
theorem xc_isIn {d : Nat} {σ : z_St} {y l m : Int64} {Q : z_St → Option z_V → Prop} (k : ∀ v, v = some (.inl (b2i (l ≤ y ∧ y ≤ m))) → Q σ v) : wp (zD (d + 1) 2 [.inr (.inl y), .inr (.inl l), .inr (.inl m)] σ) Q := by
  refine wp_eq (c2 ..) (wp_eq (e2_0 ..) (wp_if (fun hc => ?_) (fun hc => ?_))) <;> rw [lg_lt] at hc
  · refine wp_eq (e2_3 ..) (wp_eq (e2_4 ..) (wp_gd (.inl rfl) (wp_ret (k _ ?_))))
    rw [b2i_f fun h => absurd (Int64.lt_of_lt_of_le hc h.1) Int64.lt_irrefl]
  · refine wp_eq (e2_1 ..) (wp_if (fun hz => ?_) (fun hz => ?_)) <;> rw [lg_gt] at hz
    · refine wp_eq (e2_3 ..) (wp_eq (e2_4 ..) (wp_gd (.inl rfl) (wp_ret (k _ ?_))))
      rw [b2i_f fun h => absurd (Int64.lt_of_lt_of_le hz h.2) Int64.lt_irrefl]
    · refine wp_eq (e2_2 ..) (wp_eq (e2_4 ..) (wp_gd (.inr rfl) (wp_ret (k _ ?_))))
      rw [b2i_t ⟨Int64.not_lt.mp hc, Int64.not_lt.mp hz⟩]
theorem i64_le (x y : Int32) : (x.toInt64 ≤ y.toInt64) = (x ≤ y) := by
  rw [Int64.le_iff_toInt_le, Int32.le_iff_toInt_le, Int32.toInt_toInt64, Int32.toInt_toInt64]
theorem xc_peerAt {T σ : z_St} {A : w_A} (hX : w_X T σ A) {d n : Nat} {x : Int32} (hB : z_B n A) {Q : z_St → Option z_V → Prop} (k : ∀ v, v = some (.inr (.inr ((fn_pk (vN A 0 0) x).map fun p => (9, p)))) → Q σ v) : wp (zD (d + 2) 6 [.inr (.inr (some (0, 0))), .inl x] σ) Q := by
  have hb := hB.1.1
  refine wp_eq (c6 ..) (wp_eq (e6_0 ..) (wp_cr (xc_isIn fun v hv => ⟨_, hv, wp_asI0 ?_⟩)))
  rw [rx_PEERS hX]
  have hr : ((1 : Int64) ≤ x.toInt64 ∧ x.toInt64 ≤ (Int32.ofNat (vN A 0 0)).toInt64) = (1 ≤ x ∧ x ≤ Int32.ofNat (vN A 0 0)) := by
    rw [show (1 : Int64) = (1 : Int32).toInt64 from rfl, i64_le, i64_le]
  cases hp : fn_pk (vN A 0 0) x with
  | none =>
    rw [hp] at k
    rw [if_pos (by rw [b2i_0, hr]; exact pk_none hp)]
    exact wp_eq (e6_2 ..) (wp_eq (e6_3 ..) (wp_ret (k _ rfl)))
  | some p =>
    obtain ⟨h1, rfl⟩ := pk_some (by omega) hp
    rw [hp] at k
    rw [if_neg (by rw [b2i_0, hr]; exact fun h => h (pk_is.mp (by rw [hp]; rfl)))]
    have e : Int32.ofNat (p + 1) - 1 = Int32.ofNat p := by rw [show (1 : Int32) = Int32.ofNat 1 from rfl, io_sub (by omega)]; rfl
    refine wp_eq (e6_1 ..) (wp_dr (rx_p0_7 hX) (wp_gd (by rw [aty_2097301]; decide) ?_))
    rw [e]
    refine wp_gd (by rw [alen_2097301]; exact zin_io (by omega) (by omega)) (wp_eq (e6_3 ..) (wp_ret (k _ ?_)))
    dsimp only
    rw [io_nat (by omega), ((rx_F hX).1 p h1).1]
    rfl
theorem xc_linkAt {T σ : z_St} {A : w_A} (hX : w_X T σ A) {d : Nat} {x : Int32} {Q : z_St → Option z_V → Prop} (k : ∀ v, v = some (.inr (.inr ((fn_pk 8 x).map fun p => (4, p + 1)))) → Q σ v) : wp (zD (d + 2) 7 [.inr (.inr (some (0, 0))), .inl x] σ) Q := by
  refine wp_eq (c7 ..) (wp_eq (e7_0 ..) (wp_cr (xc_isIn fun v hv => ⟨_, hv, wp_asI0 ?_⟩)))
  have hr : ((1 : Int64) ≤ x.toInt64 ∧ x.toInt64 ≤ 8) = (1 ≤ x ∧ x ≤ Int32.ofNat 8) := by
    rw [show (1 : Int64) = (1 : Int32).toInt64 from rfl, show (8 : Int64) = (Int32.ofNat 8).toInt64 from rfl, i64_le, i64_le]
  cases hp : fn_pk 8 x with
  | none =>
    rw [hp] at k
    rw [if_pos (by rw [b2i_0, hr]; exact pk_none hp)]
    exact wp_eq (e7_2 ..) (wp_eq (e7_3 ..) (wp_ret (k _ rfl)))
  | some p =>
    obtain ⟨h1, rfl⟩ := pk_some (by omega) hp
    rw [hp] at k
    rw [if_neg (by rw [b2i_0, hr]; exact fun h => h (pk_is.mp (by rw [hp]; rfl)))]
    have e : Int32.ofNat (p + 1) - 1 = Int32.ofNat p := by rw [show (1 : Int32) = Int32.ofNat 1 from rfl, io_sub (by omega)]; rfl
    refine wp_eq (e7_1 ..) (wp_dr (rx_p0_6 hX) (wp_gd (by rw [aty_1048852]; decide) ?_))
    rw [e]
    refine wp_gd (by rw [alen_1048852]; exact zin_io (by omega) (by omega)) (wp_eq (e7_3 ..) (wp_ret (k _ ?_)))
    dsimp only
    rw [io_nat (by omega), (rx_links hX p h1).1]
    rfl
theorem mc_noPeer {T σ : z_St} {A : w_A} (hM : w_M T σ A) {d : Nat} {x : Int32} {Q : z_St → Option z_V → Prop} (k : ∀ v, v = some (.inl (b2i (fn_pk (vN A 0 0) x = none))) → Q σ v) : wp (zD (d + 1) 162 [.inr (.inr (some (8, 0))), .inl x] σ) Q := by
  have no : ¬ (1 ≤ x ∧ x ≤ Int32.ofNat (vN A 0 0)) → wp (E xP162 (zD d) 2 [none, none] [] σ) Q := fun h => by
    refine wp_eq (e162_2 ..) (wp_eq (e162_4 ..) (wp_gd (.inr rfl) (wp_ret (k _ ?_))))
    rw [b2i_t]
    unfold fn_pk
    rw [if_neg h]
  refine wp_eq (c162 ..) (wp_eq (e162_0 ..) (wp_if (fun hc => ?_) (fun hc => ?_)))
  · exact no fun h => absurd (Int32.lt_of_lt_of_le hc h.1) Int32.lt_irrefl
  · refine wp_eq (e162_1 ..) (wp_if (fun hz => ?_) (fun hz => ?_)) <;> rw [rm_PEERS hM] at hz
    · refine wp_eq (e162_3 ..) (wp_eq (e162_4 ..) (wp_gd (.inl rfl) (wp_ret (k _ ?_))))
      rw [b2i_f]
      unfold fn_pk
      rw [if_pos ⟨Int32.not_lt.mp hc, hz⟩]
      exact fun h => by cases h
    · exact no fun h => hz h.2
theorem mc_in {d : Nat} {σ : z_St} {x l m : Int32} {Q : z_St → Option z_V → Prop} (k : ∀ v, v = some (.inl (b2i (l ≤ x ∧ x ≤ m))) → Q σ v) : wp (zD (d + 1) 85 [.inl x, .inl l, .inl m] σ) Q := by
  refine wp_eq (c85 ..) (wp_eq (e85_0 ..) (wp_if (fun hc => ?_) (fun hc => ?_)))
  · refine wp_eq (e85_3 ..) (wp_eq (e85_4 ..) (wp_gd (.inl rfl) (wp_ret (k _ ?_))))
    rw [b2i_f fun h => absurd (Int32.lt_of_lt_of_le hc h.1) Int32.lt_irrefl]
  · refine wp_eq (e85_1 ..) (wp_if (fun hz => ?_) (fun hz => ?_))
    · refine wp_eq (e85_3 ..) (wp_eq (e85_4 ..) (wp_gd (.inl rfl) (wp_ret (k _ ?_))))
      rw [b2i_f fun h => absurd (Int32.lt_of_lt_of_le hz h.2) Int32.lt_irrefl]
    · refine wp_eq (e85_2 ..) (wp_eq (e85_4 ..) (wp_gd (.inr rfl) (wp_ret (k _ ?_))))
      rw [b2i_t ⟨Int32.not_lt.mp hc, Int32.not_lt.mp hz⟩]
