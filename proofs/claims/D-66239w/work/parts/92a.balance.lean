/-! PART 92a (src 92a.balance.src): balance, on both sides -/
set_option maxHeartbeats 400000
def fn_cBalance (A : w_A) (y : Int64) (w : Int32) : Int64 := match fn_acct A y with
  | none => -1
  | some a => if w = 0 then vJ A 1 a else if w = 1 then vJ A 2 a else if w = 2 then vJ A 3 a else -2
theorem xc_balance {T σ : z_St} {A : w_A} (hX : w_X T σ A) (h16 : vN A 1 0 ≤ 16) {d : Nat} {y : Int64} {w : Int32} {Q : z_St → Option z_V → Prop} (k : ∀ σ v, w_X T σ A → v = some (.inr (.inl (fn_cBalance A y w))) → Q σ v) : wp (zD (d + 3) 77 [.inr (.inr (some (0, 0))), .inr (.inl y), .inl w] σ) Q := by
  unfold fn_cBalance at k
  refine wp_eq (c77 ..) (wp_eq (e77_0 ..) (wp_cr (xc_acct (d := d) hX h16 ⟨_, rfl, wp_asR0 ?_⟩)))
  cases ha : fn_acct A y with
  | none =>
    rw [ha] at k
    exact wp_if (fun _ => wp_eq (e77_1 ..) (wp_ret (k _ _ hX rfl))) (fun q => absurd rfl q)
  | some a =>
    rw [ha] at k
    dsimp only at k
    refine wp_if (fun q => absurd q (by simp)) (fun _ => ?_)
    refine wp_eq (e77_2 ..) (wp_if (fun h => ?_) (fun h0 => ?_))
    · rw [if_pos h] at k
      refine wp_eq (e77_3 ..) (wp_dr rfl (wp_gd rfl ?_))
      dsimp only
      rw [rx_ABAL hX]
      exact wp_eq (e77_9 ..) (wp_ret (k _ _ hX rfl))
    rw [if_neg h0] at k
    refine wp_eq (e77_4 ..) (wp_if (fun h => ?_) (fun h1 => ?_))
    · rw [if_pos h] at k
      refine wp_eq (e77_5 ..) (wp_dr rfl (wp_gd rfl ?_))
      dsimp only
      rw [rx_ARES hX]
      exact wp_eq (e77_9 ..) (wp_ret (k _ _ hX rfl))
    rw [if_neg h1] at k
    refine wp_eq (e77_6 ..) (wp_if (fun h => ?_) (fun h2 => ?_))
    · rw [if_pos h] at k
      refine wp_eq (e77_7 ..) (wp_dr rfl (wp_gd rfl ?_))
      dsimp only
      rw [rx_ACHG hX]
      exact wp_eq (e77_9 ..) (wp_ret (k _ _ hX rfl))
    rw [if_neg h2] at k
    exact wp_eq (e77_8 ..) (wp_eq (e77_9 ..) (wp_ret (k _ _ hX rfl)))
theorem mc_balance {T σ : z_St} {A : w_A} (hM : w_M T σ A) (h16 : vN A 1 0 ≤ 16) {d : Nat} {y : Int64} {w : Int32} {Q : z_St → Option z_V → Prop} (k : ∀ σ v, w_M T σ A → v = some (.inr (.inl (fn_cBalance A y w))) → Q σ v) : wp (zD (d + 2) 178 [.inr (.inr (some (8, 0))), .inr (.inl y), .inl w] σ) Q := by
  unfold fn_cBalance at k
  refine wp_eq (c178 ..) (wp_eq (e178_0 ..) (wp_swM (wm_code hM _) fun σ hM => wp_cr (mc_acct (d := d) hM h16 ⟨_, rfl, wp_asI0 ?_⟩)))
  cases ha : fn_acct A y with
  | none =>
    rw [ha] at k
    exact wp_if (fun q => absurd q (by decide)) (fun _ => wp_eq (e178_1 ..) (wp_ret (k _ _ hM rfl)))
  | some a =>
    rw [ha] at k
    dsimp only at k
    have haa := acct_lt ha
    have ha31 : a < 2147483648 := by omega
    rw [show fn_ix (some a) = Int32.ofNat a from rfl]
    refine wp_if (fun _ => ?_) (fun q => absurd (io_pos ha31) q)
    refine wp_eq (e178_2 ..) (wp_if (fun h => ?_) (fun h0 => ?_))
    · rw [if_pos h] at k
      refine wp_eq (e178_3 ..) (wp_ar (rm_p37 hM) aty_37749267 alen_37749267 rfl (by omega) (by decide) ?_)
      dsimp only
      rw [io_nat ha31, rm_ABAL hM]
      exact wp_eq (e178_9 ..) (wp_ret (k _ _ hM rfl))
    rw [if_neg h0] at k
    refine wp_eq (e178_4 ..) (wp_if (fun h => ?_) (fun h1 => ?_))
    · rw [if_pos h] at k
      refine wp_eq (e178_5 ..) (wp_ar (rm_p38 hM) aty_38797843 alen_38797843 rfl (by omega) (by decide) ?_)
      dsimp only
      rw [io_nat ha31, rm_ARES hM]
      exact wp_eq (e178_9 ..) (wp_ret (k _ _ hM rfl))
    rw [if_neg h1] at k
    refine wp_eq (e178_6 ..) (wp_if (fun h => ?_) (fun h2 => ?_))
    · rw [if_pos h] at k
      refine wp_eq (e178_7 ..) (wp_ar (rm_p39 hM) aty_39846419 alen_39846419 rfl (by omega) (by decide) ?_)
      dsimp only
      rw [io_nat ha31, rm_ACHG hM]
      exact wp_eq (e178_9 ..) (wp_ret (k _ _ hM rfl))
    rw [if_neg h2] at k
    exact wp_eq (e178_8 ..) (wp_eq (e178_9 ..) (wp_ret (k _ _ hM rfl)))
