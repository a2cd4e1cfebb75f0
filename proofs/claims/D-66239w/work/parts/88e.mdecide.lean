/-! PART 88e (src 88e.mdecide.src): the twin decides -/
set_option maxHeartbeats 800000
theorem mc_decide {T σ : z_St} {A : w_A} (hM : w_M T σ A) {P : w_P} (hP : vP A = some P) (hr : z_rP (vI A 64) P) (hw : pW P = 0) (h263 : (fn_find (pN P) 263).isSome = true) (h416 : (fn_find (pN P) 416).isSome = true) (h415 : (fn_find (pN P) 415).isSome = true) {n : Nat} (hB : z_B n A) (hS1 : z_S1 A) (hS2 : z_S2 A) (hSN : z_SN A) (hg : ∀ r, r < 16 → ¬ vN A 16 0 = r + 1) {p : Nat} {d : Nat} {Q : z_St → Option z_V → Prop} (k : ∀ σ, w_M T σ (fn_decide A P p).1 → Q σ (some (.inl (fn_decide A P p).2))) : wp (zD (d + 7) 145 [.inr (.inr (some (8, 0))), .inl (Int32.ofNat p)] σ) Q := by
  have hb := hB.1
  have hIB := hB.2.2.2.2.2.2.2.2.2.2.2.2
  obtain ⟨hc1, hc8⟩ := rP_C hr
  have hm := rm_msg hM hP
  have hin := hm.2.2.2.2.2.2.2.2.2 hw
  obtain ⟨a, g1, g2, g3⟩ := mm_num hM hP hr (i := 5) (code := 416) (by decide) rfl (by decide) h416
  have hut := un4_int (vI A 64) (pC P) a
  unfold fn_decide at k
  dsimp only at k
  rw [g3] at k
  refine wp_eq (c145 ..) (wp_eq (e145_0 ..) (wp_ar (k := 5) (rm_p77 hM) aty_66060688 alen_66060688 rfl (by decide) (by decide) ?_))
  dsimp only
  rw [show (5 : Int32).toNatClampNeg = 5 from by decide, g1]
  refine wp_cr (mw_n4 (d := d + 4) (k := a) hM hm.1 hc8 g2 rfl ⟨_, rfl, wp_asI0 ?_⟩)
  rw [show (n4 (vI A 64) (pC P) a).toInt64 &&& 4294967295 = un4 (vI A 64) (pC P) a from rfl]
  refine wp_cr (mc_uv (d := d + 2) (g := 437) hM hP hr (by decide) hin.2.2.2.1 ⟨_, rfl, wp_asJ0 ?_⟩)
  refine wp_cr (mc_uv (d := d + 2) (g := 446) hM hP hr (by decide) hin.2.2.2.2 ⟨_, rfl, wp_asJ0 ?_⟩)
  generalize un4 (vI A 64) (pC P) a = t at *
  have lt1 : (t < 1) = (t.toInt < 1) := by rw [i64_lt]; rfl
  have gt4 : (4 < t) = (4 < t.toInt) := by rw [i64_lt]; rfl
  have teq : ∀ x : Int64, (t = x) = (t.toInt = x.toInt) := fun x => by rw [Int64.toInt_inj]
  have bad : (t < 1 ∨ 4 < t ∨ ¬ fn_right (vI A 64) P 437 ∨ ¬ fn_right (vI A 64) P 446 ∨ (t = 4 ∧ ¬ (0 ≤ fn_n (vI A 64) P 436 ∧ fn_n (vI A 64) P 436 ≤ 2))) → wp (E xP145 (zD (d + 6)) 12 [none, none, none, none, none, none, none, none, none, none, none, none, none] [] σ) Q := by
    intro h
    rw [if_pos h] at k
    exact wp_eq (e145_12 ..) (wp_ret (k σ hM))
  have k5 : ∀ v : Int32, (v = 0 ∨ v = 1) → (v = 0 ↔ ¬ (t = 4 ∧ ¬ (0 ≤ fn_n (vI A 64) P 436 ∧ fn_n (vI A 64) P 436 ≤ 2))) → wp (E xP145 (zD (d + 6)) 5 [some (.inr (.inr (some (8, 0)))), some (.inl (Int32.ofNat p)), some (.inr (.inl t)), none, some (.inr (.inl (z_uv A P 437 0))), none, some (.inr (.inl (z_uv A P 446 0))), none, none, none, none, none, none] [.inl v] σ) Q := by
    intro v hv01 hv
    refine wp_eq (e145_5 ..) (wp_if (fun h => ?_) (fun h1 => ?_))
    · rw [lg_lt] at h; exact bad (.inl h)
    rw [lg_lt] at h1
    refine wp_eq (e145_6 ..) (wp_if (fun h => ?_) (fun h2 => ?_))
    · rw [lg_gt] at h; exact bad (.inr (.inl h))
    rw [lg_gt] at h2
    refine wp_eq (e145_7 ..) (wp_if (fun h => ?_) (fun h3 => ?_))
    · rw [lg_lt] at h; exact bad (.inr (.inr (.inl fun q => absurd h (Int64.not_lt.mpr (uv_right.mp q).1))))
    rw [lg_lt] at h3
    refine wp_eq (e145_8 ..) (wp_if (fun h => ?_) (fun h4 => ?_))
    · rw [lg_gt] at h; exact bad (.inr (.inr (.inl fun q => absurd h (Int64.not_lt.mpr (uv_right.mp q).2))))
    rw [lg_gt] at h4
    have hR : fn_right (vI A 64) P 437 := uv_right.mpr ⟨Int64.not_lt.mp h3, Int64.not_lt.mp h4⟩
    refine wp_eq (e145_9 ..) (wp_if (fun h => ?_) (fun h5 => ?_))
    · rw [lg_lt] at h; exact bad (.inr (.inr (.inr (.inl fun q => absurd h (Int64.not_lt.mpr (uv_right.mp q).1)))))
    rw [lg_lt] at h5
    refine wp_eq (e145_10 ..) (wp_if (fun h => ?_) (fun h6 => ?_))
    · rw [lg_gt] at h; exact bad (.inr (.inr (.inr (.inl fun q => absurd h (Int64.not_lt.mpr (uv_right.mp q).2)))))
    rw [lg_gt] at h6
    have hR2 : fn_right (vI A 64) P 446 := uv_right.mpr ⟨Int64.not_lt.mp h5, Int64.not_lt.mp h6⟩
    refine wp_eq (e145_11 ..) (wp_if (fun hv0 => ?_) (fun hv0 => ?_))
    rotate_left
    · exact bad (.inr (.inr (.inr (.inr (Classical.byContradiction fun q => hv0 (hv.mpr q))))))
    have hact := hv.mp hv0
    rw [if_neg (fun q => q.elim h1 (fun q => q.elim h2 (fun q => q.elim (fun q => q hR) (fun q => q.elim (fun q => q hR2) hact))))] at k
    refine wp_eq (e145_13 ..) (wp_if (fun h => ?_) (fun ht1 => ?_))
    · rw [lg_eq] at h
      rw [if_pos h] at k
      exact wp_eq (e145_14 ..) (wp_cr (mc_first (d := d) hM hP hr hw h263 h415 hB hS1 hS2 hSN hg hR fun σ hM => ⟨_, rfl, wp_asI0 (wp_ret (k σ hM))⟩))
    rw [lg_eq] at ht1
    rw [if_neg ht1] at k
    refine wp_eq (e145_15 ..) (wp_if (fun h => ?_) (fun ht4 => ?_))
    · rw [lg_eq] at h
      rw [if_neg (by rw [h]; decide), if_neg (by rw [h]; decide)] at k
      have hok : 0 ≤ fn_n (vI A 64) P 436 ∧ fn_n (vI A 64) P 436 ≤ 2 := Classical.byContradiction fun q => hact ⟨h, q⟩
      have h436 : (fn_find (pN P) 436).isSome = true := by
        cases e : fn_find (pN P) 436 with
        | some _ => rfl
        | none =>
          have : fn_n (vI A 64) P 436 = -1 := by unfold fn_n; rw [e]
          rw [this] at hok
          exact absurd hok.1 (by decide)
      obtain ⟨b, f1, f2, f3⟩ := mm_num hM hP hr (i := 8) (code := 436) (by decide) rfl (by decide) h436
      refine wp_eq (e145_16 ..) (wp_ar (k := 8) (rm_p77 hM) aty_66060688 alen_66060688 rfl (by decide) (by decide) ?_)
      dsimp only
      rw [show (8 : Int32).toNatClampNeg = 8 from by decide, f1]
      refine wp_cr (mw_n4 (d := d + 4) (k := b) hM hm.1 hc8 f2 rfl ⟨_, rfl, ?_⟩)
      have ea : (fn_n (vI A 64) P 436).toInt32 = n4 (vI A 64) (pC P) b := by
        rw [f3, ← gw4u, gw4]
      rw [ea] at k
      refine wp_cr (mc_event (d := d + 3) hM hP hr hw hIB (by omega) hR (fun a ha => ?_) rfl fun σ hM => ⟨_, rfl, wp_asI0 (wp_ret (k σ hM))⟩)
      have := S2_bd (fun r hr => (hS1 r hr).2.2.1) hS2 ha
      exact ⟨by omega, this.2.2⟩
    rw [lg_eq] at ht4
    refine wp_eq (e145_17 ..) (wp_cr (mc_sess (d := d + 4) hM hP hr h263 hSN (by omega) ⟨_, rfl, wp_asI0 ?_⟩))
    have t23 : t = 2 ∨ t = 3 := by
      rw [lt1] at h1
      rw [gt4] at h2
      rw [teq] at ht1 ht4
      rw [teq, teq]
      rw [show (1 : Int64).toInt = 1 from rfl] at ht1
      rw [show (4 : Int64).toInt = 4 from rfl] at ht4
      rw [show (2 : Int64).toInt = 2 from rfl, show (3 : Int64).toInt = 3 from rfl]
      omega
    have hgo : (if t = 2 then fn_goes A P p else if t = 3 then fn_ends A P else fn_event A P (fn_n (vI A 64) P 436).toInt32) = if t = 3 then fn_ends A P else fn_goes A P p := by
      rcases t23 with rfl | rfl
      · rw [if_pos rfl, if_neg (by decide)]
      · rw [if_neg (by decide), if_pos rfl, if_pos rfl]
    rw [hgo] at k
    unfold fn_goes fn_ends at k
    cases hses : fn_sess A P with
    | none =>
      rw [hses] at k
      dsimp only at k
      rw [ite_self] at k
      exact wp_if (fun q => absurd q (by decide)) (fun _ => wp_eq (e145_18 ..) (wp_ret (k σ hM)))
    | some s =>
      rw [hses] at k
      dsimp only at k
      have hs := sess_lt hses
      have hs31 : s < 2147483648 := by omega
      rw [show fn_ix (some s) = Int32.ofNat s from rfl]
      refine wp_if (fun _ => ?_) (fun q => absurd (io_pos hs31) q)
      refine wp_eq (e145_19 ..) (wp_cr (mc_count (d := d + 3) hM hP hr h415 ⟨_, rfl, ?_⟩))
      refine (wp_ar (rm_p46 hM) aty_46137875 alen_46137875 rfl (by omega) (by decide) ?_)
      refine wp_asJ0 ?_
      dsimp only
      rw [io_nat hs31, rm_SCOUNT hM hs]
      refine wp_if (fun hct => ?_) (fun hct => ?_) <;> rw [lg_gt] at hct
      rotate_left
      · rw [if_pos (Int64.not_lt.mp hct), if_pos (Int64.not_lt.mp hct), ite_self] at k
        exact wp_eq (e145_20 ..) (wp_ret (k σ hM))
      rw [if_neg (Int64.not_le.mpr hct), if_neg (Int64.not_le.mpr hct)] at k
      have hy6 : z_uv A P 446 0 = fn_used A P := by
        rw [uv_eq hR2]
        rfl
      refine mc_charge (d := d) hM hP hr hw h415 hB hS1 hS2 hSN hg hR hR2 hs hy6 (fun ht σ hM => ?_) (fun ht hf σ hM => ?_) (fun ht hf σ hM => ?_)
      · rw [if_pos ht] at k
        exact k σ hM
      · rw [if_neg ht, if_pos hf] at k
        exact k σ hM
      · rw [if_neg ht, if_neg hf] at k
        exact k σ hM
  have hml := many_le (pN P) 436
  have hl := rP_len hr
  refine wp_if (fun h4 => ?_) (fun h4 => ?_) <;> rw [lg_eq] at h4
  rotate_left
  · exact wp_eq (e145_4 ..) (k5 0 (.inl rfl) ⟨fun _ q => h4 q.1, fun _ => rfl⟩)
  obtain ⟨f1, f2⟩ : gI σ 68157840 0 8 = Int32.ofNat (fn_many (pN P) 436) ∧ ∀ q, fn_find (pN P) 436 = some q → gI σ 66060688 0 8 = Int32.ofNat q.2.1 ∧ gI σ 67109264 0 8 = Int32.ofNat q.2.2 := mm_key hm (k := 8) (by decide)
  refine wp_eq (e145_1 ..) (wp_ar (k := 8) (rm_p79 hM) aty_68157840 alen_68157840 rfl (by decide) (by decide) ?_)
  dsimp only
  rw [show (8 : Int32).toNatClampNeg = 8 from by decide, f1]
  refine wp_if (fun h => ?_) (fun h => ?_) <;> rw [io_eq_l (Nat.lt_of_le_of_lt hml (by omega)) (by decide)] at h
  · have hn := (many_0 (pN P) 436).mp h
    have : fn_n (vI A 64) P 436 = -1 := by unfold fn_n; rw [hn]
    refine wp_eq (e145_3 ..) (k5 1 (.inr rfl) ⟨fun q => absurd q (by decide), fun q => absurd ⟨h4, ?_⟩ q⟩)
    rw [this]
    decide
  · have hn : ¬ fn_find (pN P) 436 = none := fun q => h ((many_0 (pN P) 436).mpr q)
    cases e : fn_find (pN P) 436 with
    | none => exact absurd e hn
    | some q =>
      have hq := rP_num hr (by decide) q e
      have f3 := (f2 q e).1
      have en : fn_n (vI A 64) P 436 = un4 (vI A 64) (pC P) q.2.1 := by unfold fn_n; rw [e]
      have hu := un4_int (vI A 64) (pC P) q.2.1
      refine wp_eq (e145_2 ..) (wp_ar (k := 8) (rm_p77 hM) aty_66060688 alen_66060688 rfl (by decide) (by decide) ?_)
      dsimp only
      rw [show (8 : Int32).toNatClampNeg = 8 from by decide, f3]
      refine wp_cr (mw_n4 (d := d + 4) (k := q.2.1) hM hm.1 hc8 hq rfl ⟨_, rfl, wp_asI0 ?_⟩)
      rw [show (n4 (vI A 64) (pC P) q.2.1).toInt64 &&& 4294967295 = un4 (vI A 64) (pC P) q.2.1 from rfl, ← en]
      rw [← en] at hu
      have h0 : 0 ≤ fn_n (vI A 64) P 436 := Int64.le_iff_toInt_le.mpr (by rw [show (0 : Int64).toInt = 0 from rfl]; exact hu.1)
      refine wp_if (fun h => ?_) (fun h => ?_) <;> rw [lg_le] at h
      · exact wp_eq (e145_4 ..) (k5 0 (.inl rfl) ⟨fun _ g => g.2 ⟨h0, Int64.not_lt.mp h⟩, fun _ => rfl⟩)
      · exact wp_eq (e145_3 ..) (k5 1 (.inr rfl) ⟨fun g => absurd g (by decide), fun g => absurd ⟨h4, fun x => h (Int64.not_lt.mpr x.2)⟩ g⟩)
