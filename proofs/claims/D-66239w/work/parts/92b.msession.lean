/-! PART 92b (src 92b.msession.src): session and asked: the twin -/
set_option maxHeartbeats 400000
theorem ix_of {x : Int32} {n : Nat} (hn : n < 2147483648) (h0 : ¬ x < 0) (h1 : x < Int32.ofNat n) : ∃ s, s < n ∧ x = Int32.ofNat s ∧ x.toNatClampNeg = s := by
  have g0 : 0 ≤ x.toInt := Int32.le_iff_toInt_le.mp (Int32.not_lt.mp h0)
  have g1 : x.toInt < (Int32.ofNat n).toInt := Int32.lt_iff_toInt_lt.mp h1
  rw [io_toInt (by omega)] at g1
  refine ⟨x.toInt.toNat, by omega, ?_, rfl⟩
  apply Int32.toInt_inj.mp
  rw [io_toInt (by omega)]
  omega
def fn_cSession (A : w_A) (x w : Int32) : Int32 := if x < 0 ∨ ¬ x < Int32.ofNat (vN A 2 0) then -1
  else if w = 0 then Int32.ofNat (vL A 4 x.toNatClampNeg).length else if w = 1 then (vJ A 6 x.toNatClampNeg).toInt32 else if w = 2 then vI A 20 x.toNatClampNeg else if w = 3 then vI A 21 x.toNatClampNeg else -2
theorem mc_session {T σ : z_St} {A : w_A} (hM : w_M T σ A) (h16 : vN A 2 0 ≤ 16) {d : Nat} {x w : Int32} {Q : z_St → Option z_V → Prop} (k : ∀ σ v, w_M T σ A → v = some (.inl (fn_cSession A x w)) → Q σ v) : wp (zD (d + 1) 180 [.inr (.inr (some (8, 0))), .inl x, .inl w] σ) Q := by
  unfold fn_cSession at k
  refine wp_eq (c180 ..) (wp_eq (e180_0 ..) (wp_swM (wm_code hM _) fun σ hM => wp_if (fun h => ?_) (fun h0 => ?_)))
  · rw [if_pos (.inl h)] at k
    exact wp_eq (e180_2 ..) (wp_ret (k _ _ hM rfl))
  refine wp_eq (e180_1 ..) ?_
  rw [rm_SESS hM]
  refine wp_if (fun h1 => ?_) (fun h1 => ?_)
  rotate_left
  · rw [if_pos (.inr h1)] at k
    exact wp_eq (e180_2 ..) (wp_ret (k _ _ hM rfl))
  rw [if_neg (fun q => q.elim h0 (fun q => q h1))] at k
  obtain ⟨s, hs, rfl, hx⟩ := ix_of (by omega) h0 h1
  rw [hx] at k
  have hs31 : s < 2147483648 := by omega
  have hs41 : 41 * s < 2147483648 := by omega
  obtain ⟨-, g2, g3, g4, -, g6, -, -⟩ := (rm_J hM).2 s hs
  refine wp_eq (e180_3 ..) (wp_if (fun h => ?_) (fun h2 => ?_))
  · rw [if_pos h] at k
    refine wp_eq (e180_4 ..) (wp_ar (k := 41 * s) (rm_p41 hM) aty_40915473 alen_40915473 (io_mul 41 s) (by omega) (by decide) ?_)
    dsimp only
    rw [show (41 : Int32) * Int32.ofNat s = Int32.ofNat (41 * s) from io_mul 41 s, io_nat hs41, g6.1]
    exact wp_ret (k _ _ hM rfl)
  rw [if_neg h2] at k
  refine wp_if (fun h => ?_) (fun h3 => ?_)
  · rw [if_pos h] at k
    refine wp_eq (e180_5 ..) (wp_ar (rm_p46 hM) aty_46137875 alen_46137875 rfl (by omega) (by decide) ?_)
    dsimp only
    rw [io_nat hs31, g2]
    exact wp_ret (k _ _ hM rfl)
  rw [if_neg h3] at k
  refine wp_if (fun h => ?_) (fun h4 => ?_)
  · rw [if_pos h] at k
    refine wp_eq (e180_6 ..) (wp_ar (rm_p47 hM) aty_47186448 alen_47186448 rfl (by omega) (by decide) ?_)
    dsimp only
    rw [io_nat hs31, g3]
    exact wp_ret (k _ _ hM rfl)
  rw [if_neg h4] at k
  refine wp_if (fun h => ?_) (fun h5 => ?_)
  · rw [if_pos h] at k
    refine wp_eq (e180_7 ..) (wp_ar (rm_p48 hM) aty_48235024 alen_48235024 rfl (by omega) (by decide) ?_)
    dsimp only
    rw [io_nat hs31, g4]
    exact wp_ret (k _ _ hM rfl)
  rw [if_neg h5] at k
  exact wp_eq (e180_8 ..) (wp_ret (k _ _ hM rfl))
