/-! PART 92c (src 92c.masked.src): asked: the twin -/
set_option maxHeartbeats 400000
def fn_cAsked (A : w_A) (x w : Int32) : Int32 := if x < 0 ∨ ¬ x < Int32.ofNat (vN A 3 0) then -1
  else if w = 0 then (vJ A 4 x.toNatClampNeg).toInt32 else if w = 1 then Int32.ofNat (vN A 12 x.toNatClampNeg) else if w = 2 then vI A 15 x.toNatClampNeg else if w = 3 then vI A 16 x.toNatClampNeg else if w = 4 then vI A 17 x.toNatClampNeg else -2
theorem mc_asked {T σ : z_St} {A : w_A} (hM : w_M T σ A) {n : Nat} (hI : z_I n A) {d : Nat} {x w : Int32} {Q : z_St → Option z_V → Prop} (k : ∀ σ v, w_M T σ A → v = some (.inl (fn_cAsked A x w)) → Q σ v) : wp (zD (d + 1) 183 [.inr (.inr (some (8, 0))), .inl x, .inl w] σ) Q := by
  have hb := hI.1.1
  unfold fn_cAsked at k
  refine wp_eq (c183 ..) (wp_eq (e183_0 ..) (wp_swM (wm_code hM _) fun σ hM => wp_if (fun h => ?_) (fun h0 => ?_)))
  · rw [if_pos (.inl h)] at k
    exact wp_eq (e183_2 ..) (wp_ret (k _ _ hM rfl))
  refine wp_eq (e183_1 ..) ?_
  rw [rm_ASKS hM]
  refine wp_if (fun h1 => ?_) (fun h1 => ?_)
  rotate_left
  · rw [if_pos (.inr h1)] at k
    exact wp_eq (e183_2 ..) (wp_ret (k _ _ hM rfl))
  rw [if_neg (fun q => q.elim h0 (fun q => q h1))] at k
  obtain ⟨s, hs, rfl, hx⟩ := ix_of (by omega) h0 h1
  rw [hx] at k
  have hs31 : s < 2147483648 := by omega
  have hq := (hI.2.2.1 s hs).2.2.2
  refine wp_eq (e183_3 ..) (wp_if (fun h => ?_) (fun h2 => ?_))
  · rw [if_pos h] at k
    refine wp_eq (e183_4 ..) (wp_ar (rm_p53 hM) aty_52430867 alen_52430867 rfl (by omega) (by decide) ?_)
    dsimp only
    rw [io_nat hs31, rm_QRES hM]
    exact wp_ret (k _ _ hM rfl)
  rw [if_neg h2] at k
  refine wp_if (fun h => ?_) (fun h3 => ?_)
  · rw [if_pos h] at k
    refine wp_eq (e183_5 ..) (wp_ar (rm_p54 hM) aty_53479440 alen_53479440 rfl (by omega) (by decide) ?_)
    dsimp only
    rw [io_nat hs31, rm_QPEER hM, io_add_l, show vN A 12 s - 1 + 1 = vN A 12 s by omega]
    exact wp_ret (k _ _ hM rfl)
  rw [if_neg h3] at k
  refine wp_if (fun h => ?_) (fun h4 => ?_)
  · rw [if_pos h] at k
    refine wp_eq (e183_6 ..) (wp_ar (rm_p55 hM) aty_54528016 alen_54528016 rfl (by omega) (by decide) ?_)
    dsimp only
    rw [io_nat hs31, rm_QTIMES hM]
    exact wp_ret (k _ _ hM rfl)
  rw [if_neg h4] at k
  refine wp_if (fun h => ?_) (fun h5 => ?_)
  · rw [if_pos h] at k
    refine wp_eq (e183_7 ..) (wp_ar (rm_p56 hM) aty_55576592 alen_55576592 rfl (by omega) (by decide) ?_)
    dsimp only
    rw [io_nat hs31, rm_QHOP hM]
    exact wp_ret (k _ _ hM rfl)
  rw [if_neg h5] at k
  refine wp_if (fun h => ?_) (fun h6 => ?_)
  · rw [if_pos h] at k
    refine wp_eq (e183_8 ..) (wp_ar (rm_p57 hM) aty_56625168 alen_56625168 rfl (by omega) (by decide) ?_)
    dsimp only
    rw [io_nat hs31, rm_QEND hM]
    exact wp_ret (k _ _ hM rfl)
  rw [if_neg h6] at k
  exact wp_eq (e183_9 ..) (wp_ret (k _ _ hM rfl))
