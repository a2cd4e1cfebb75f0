/-! PART 64 (src 64.take.src): the calls take and connection -/
set_option maxHeartbeats 400000
theorem x_Qt {T σ : z_St} {A : w_A} (h : w_X T σ A) {c : Nat} {f : Nat} {b : Int32} {l : List Int32} (hf : f < 2000) (h7 : gI σ 4 7 c = Int32.ofNat f) (hq : vL A 3 c = b :: l) : w_X T (wI (wI σ 4 7 c (Int32.ofNat ((f + 1) % 2000))) 4 8 c (Int32.ofNat l.length)) (sL A 3 c l) := by
  obtain ⟨hT, hA, hB, hC, hD, hE, hF, hG, hH, hI, hJ, hK, hL, hM, hN⟩ := h
  refine ⟨x_T_wI (x_T_wI hT (z_isM_dec _ rfl)) (z_isM_dec _ rfl), hA, hB, hC, hD, hE, hF, hG, ?_, hI, hJ, hK, hL, hM, hN⟩
  intro e he1 he
  obtain ⟨g1, g2, f2, g3, g4, g5⟩ := hH e he1 he
  by_cases hec : e = c
  · subst hec
    have hff : f2 = f := by
      have g6 : Int32.ofNat f2 = Int32.ofNat f := g4.symm.trans h7
      rwa [io_inj (by omega) (by omega)] at g6
    subst hff
    simp only [vL_sL, gI_wI, ev_rd, ev_st, aEl, z_w, z_cat, Nat.reduceMod, Nat.reduceDiv, Nat.reduceLeDiff, Nat.reduceLT, Nat.reduceAdd, Nat.reduceMul, Nat.reduceSub, Nat.reduceEqDiff, Int32.reduceLT, Int32.reduceLE, Int32.reduceAdd, Int32.reduceSub, Int32.reduceMul, true_and, and_true, false_and, and_false, true_or, or_true, false_or, or_false, not_true_eq_false, not_false_eq_true, if_true, if_false, reduceIte, ne_eq, and_self, or_self, reduceCtorEq, Option.some.injEq, Prod.mk.injEq]
    have hlen : (vL A 3 e).length = l.length + 1 := by rw [hq]; rfl
    refine ⟨by omega, (f2 + 1) % 2000, by omega, rfl, fun k hk => ?_⟩
    have := g5 (k + 1) (by omega)
    rw [show (f2 + (k + 1)) % 2000 = ((f2 + 1) % 2000 + k) % 2000 by omega] at this
    rw [this]
    simp only [hq, List.getElem_cons_succ]
  · simp only [vL_sL, gI_wI, ev_rd, ev_st, aEl, z_w, z_cat, Nat.reduceMod, Nat.reduceDiv, Nat.reduceLeDiff, Nat.reduceLT, Nat.reduceAdd, Nat.reduceMul, Nat.reduceSub, Nat.reduceEqDiff, Int32.reduceLT, Int32.reduceLE, Int32.reduceAdd, Int32.reduceSub, Int32.reduceMul, true_and, and_true, false_and, and_false, true_or, or_true, false_or, or_false, not_true_eq_false, not_false_eq_true, if_true, if_false, reduceIte, ne_eq, and_self, or_self, reduceCtorEq, Option.some.injEq, Prod.mk.injEq, hec]
    exact ⟨g1, g2, f2, g3, g4, g5⟩
theorem m_Qt {T σ : z_St} {A : w_A} (h : w_M T σ A) {c : Nat} {f : Nat} {b : Int32} {l : List Int32} (hf : f < 2000) (h7 : gI σ 35651888 0 c = Int32.ofNat f) (hq : vL A 3 c = b :: l) : w_M T (wI (wI σ 35651888 0 c (Int32.ofNat ((f + 1) % 2000))) 34603312 0 c (Int32.ofNat l.length)) (sL A 3 c l) := by
  obtain ⟨hT, hA, hB, hC, hD, hG, hH, hI, hJ, hK, hL, hM, hN⟩ := h
  refine ⟨m_T_wI (m_T_wI hT (z_isM_yes _ rfl)) (z_isM_yes _ rfl), hA, hB, hC, hD, hG, ?_, hI, hJ, hK, hL, hM, hN⟩
  intro e he1 he
  obtain ⟨g1, g2, f2, g3, g4, g5⟩ := hH e he1 he
  by_cases hec : e = c
  · subst hec
    have hff : f2 = f := by
      have g6 : Int32.ofNat f2 = Int32.ofNat f := g4.symm.trans h7
      rwa [io_inj (by omega) (by omega)] at g6
    subst hff
    simp only [vL_sL, gI_wI, ev_rd, ev_st, aEl, z_w, z_cat, Nat.reduceMod, Nat.reduceDiv, Nat.reduceLeDiff, Nat.reduceLT, Nat.reduceAdd, Nat.reduceMul, Nat.reduceSub, Nat.reduceEqDiff, Int32.reduceLT, Int32.reduceLE, Int32.reduceAdd, Int32.reduceSub, Int32.reduceMul, true_and, and_true, false_and, and_false, true_or, or_true, false_or, or_false, not_true_eq_false, not_false_eq_true, if_true, if_false, reduceIte, ne_eq, and_self, or_self, reduceCtorEq, Option.some.injEq, Prod.mk.injEq]
    have hlen : (vL A 3 e).length = l.length + 1 := by rw [hq]; rfl
    refine ⟨by omega, (f2 + 1) % 2000, by omega, rfl, fun k hk => ?_⟩
    have := g5 (k + 1) (by omega)
    rw [show (f2 + (k + 1)) % 2000 = ((f2 + 1) % 2000 + k) % 2000 by omega] at this
    rw [this]
    simp only [hq, List.getElem_cons_succ]
  · simp only [vL_sL, gI_wI, ev_rd, ev_st, aEl, z_w, z_cat, Nat.reduceMod, Nat.reduceDiv, Nat.reduceLeDiff, Nat.reduceLT, Nat.reduceAdd, Nat.reduceMul, Nat.reduceSub, Nat.reduceEqDiff, Int32.reduceLT, Int32.reduceLE, Int32.reduceAdd, Int32.reduceSub, Int32.reduceMul, true_and, and_true, false_and, and_false, true_or, or_true, false_or, or_false, not_true_eq_false, not_false_eq_true, if_true, if_false, reduceIte, ne_eq, and_self, or_self, reduceCtorEq, Option.some.injEq, Prod.mk.injEq, hec]
    exact ⟨g1, g2, f2, g3, g4, g5⟩
def fn_cTake (A : w_A) (x : Int32) : w_A × Int32 := match fn_pk 8 x with
  | none => (A, -1)
  | some k => match vL A 3 (k + 1) with
    | [] => (A, -2)
    | b :: l => (sL A 3 (k + 1) l, b &&& 255)
theorem xc_take {T σ : z_St} {A : w_A} (hX : w_X T σ A) {d : Nat} {x : Int32} {Q : z_St → Option z_V → Prop} (k : ∀ σ v, w_X T σ (fn_cTake A x).1 → v = some (.inl (fn_cTake A x).2) → Q σ v) : wp (zD (d + 3) 72 [.inr (.inr (some (0, 0))), .inl x] σ) Q := by
  unfold fn_cTake at k
  refine wp_eq (c72 ..) (wp_eq (e72_0 ..) (wp_cr (xc_linkAt hX fun v hv => ⟨_, hv, ?_⟩)))
  rw [asR_mk]
  cases hp : fn_pk 8 x with
  | none =>
    rw [hp] at k
    refine wp_if (fun _ => ?_) (fun h => absurd (by rfl) h)
    exact wp_eq (e72_1 ..) (wp_eq (e72_5 ..) (wp_ret (k _ _ hX rfl)))
  | some c =>
    obtain ⟨hc8, rfl⟩ := pk_some (by omega) hp
    rw [hp] at k
    rw [if_neg (by simp)]
    dsimp only at k
    obtain ⟨g1, g2, f, g3, g4, g5⟩ := (rx_H hX) (c + 1) (by omega) (by omega)
    refine wp_eq (e72_2 ..) (wp_dr rfl (wp_gd rfl ?_))
    dsimp only
    cases hq : vL A 3 (c + 1) with
    | nil =>
      rw [hq] at k g2
      refine wp_if (fun _ => ?_) (fun h => absurd (by rw [g2]; rfl) h)
      exact wp_eq (e72_3 ..) (wp_eq (e72_5 ..) (wp_ret (k _ _ hX rfl)))
    | cons b l =>
      rw [hq] at k
      have hlen : (vL A 3 (c + 1)).length = l.length + 1 := by rw [hq]; rfl
      have hb : gI σ 74512913 (c + 1) f = b := by
        have := g5 0 (by omega)
        rw [show (f + 0) % 2000 = f from Nat.mod_eq_of_lt g3] at this
        rw [this]
        simp only [hq, List.getElem_cons_zero]
      refine wp_if (fun h => ?_) (fun _ => ?_)
      · rw [g2, hlen, io_eq_l (by omega) (by decide)] at h
        omega
      refine wp_eq (e72_4 ..) (wp_dr rfl (wp_gd rfl (wp_cr (wp_eq (c195 ..) (wp_eq (e195_0 ..) (wp_dr (rx_p4_6 hX _) (wp_gd aty_74512913 ?_)))))))
      dsimp only
      rw [g4]
      refine wp_gd (by rw [alen_74512913]; exact zin_io (by omega) (by omega)) (wp_sw (wp_sw (wp_ret ⟨_, rfl, wp_eq (e72_5 ..) (wp_ret (k _ _ ?_ ?_))⟩)))
      · rw [show gI (wI σ 4 7 (c + 1) (Int32.ofNat f + 1 - (Int32.ofNat f + 1) / 2000 * 2000)) 4 8 (c + 1) = Int32.ofNat (l.length + 1) from by rw [← hlen]; exact g2, show Int32.ofNat (l.length + 1) - 1 = Int32.ofNat l.length from by rw [show (1 : Int32) = Int32.ofNat 1 from rfl, io_sub (by omega)]; rfl, io_add_l, io_mod_l (by omega) (by decide)]
        exact x_Qt hX g3 g4 hq
      · rw [io_nat (by omega), hb]
theorem mc_take {T σ : z_St} {A : w_A} (hM : w_M T σ A) {d : Nat} {x : Int32} {Q : z_St → Option z_V → Prop} (k : ∀ σ v, w_M T σ (fn_cTake A x).1 → v = some (.inl (fn_cTake A x).2) → Q σ v) : wp (zD (d + 2) 173 [.inr (.inr (some (8, 0))), .inl x] σ) Q := by
  unfold fn_cTake at k
  refine wp_eq (c173 ..) (wp_eq (e173_0 ..) (wp_swM (wm_code hM _) fun σ hM => wp_cr (mc_in fun v hv => ⟨_, hv, wp_asI0 ?_⟩)))
  cases hp : fn_pk 8 x with
  | none =>
    rw [hp] at k
    rw [if_pos (by rw [b2i_0]; exact pk_none hp)]
    exact wp_eq (e173_1 ..) (wp_ret (k _ _ hM rfl))
  | some c =>
    rw [if_neg (by rw [b2i_0]; exact fun h => h (pk_is.mp (by rw [hp]; rfl)))]
    obtain ⟨hc8, rfl⟩ := pk_some (by omega) hp
    rw [hp] at k
    dsimp only at k
    have hc31 : c + 1 < 2147483648 := by omega
    obtain ⟨g1, g2, f, g3, g4, g5⟩ := (rm_H hM) (c + 1) (by omega) (by omega)
    refine wp_eq (e173_2 ..) (wp_ar (rm_p32 hM) aty_34603312 alen_34603312 rfl (by omega) (by decide) ?_)
    cases hq : vL A 3 (c + 1) with
    | nil =>
      rw [hq] at k g2
      refine wp_if (fun _ => ?_) (fun h => absurd (by dsimp only; rw [io_nat hc31, g2]; rfl) h)
      exact wp_eq (e173_3 ..) (wp_ret (k _ _ hM rfl))
    | cons b l =>
      rw [hq] at k
      have hlen : (vL A 3 (c + 1)).length = l.length + 1 := by rw [hq]; rfl
      have hb : gI σ 34130449 0 (2000 * (c + 1) + f) = b := by
        have := g5 0 (by omega)
        rw [show (f + 0) % 2000 = f from Nat.mod_eq_of_lt g3] at this
        rw [this]
        simp only [hq, List.getElem_cons_zero]
      refine wp_if (fun h => ?_) (fun _ => ?_)
      · dsimp only at h
        rw [io_nat hc31, g2, hlen, io_eq_l (by omega) (by decide)] at h
        omega
      have hix : 2000 * Int32.ofNat (c + 1) + Int32.ofNat f = Int32.ofNat (2000 * (c + 1) + f) := by rw [io_lmul, io_add]
      have hi31 : 2000 * (c + 1) + f < 2147483648 := by omega
      refine wp_eq (e173_4 ..) (wp_ar (rm_p33 hM) aty_35651888 alen_35651888 rfl (by omega) (by decide) ?_)
      simp only [io_nat hc31, g4]
      refine (wp_ar (rm_p31 hM) aty_34130449 alen_34130449 hix (by omega) (by decide) ?_)
      simp only [hix, io_nat hi31, hb]
      refine (wp_ar (rm_p33 hM) aty_35651888 alen_35651888 rfl (by omega) (by decide) (wp_ar (rm_p33 hM) aty_35651888 alen_35651888 rfl (by omega) (by decide) ?_))
      simp only [io_nat hc31, g4]
      rw [io_add_l, io_mod_l (by omega) (by decide)]
      refine wp_sw (wp_ar (show gR σ 8 32 0 = some (34603312, 0) from rm_p32 hM) aty_34603312 alen_34603312 rfl (by omega) (by decide) (wp_ar (show gR σ 8 32 0 = some (34603312, 0) from rm_p32 hM) aty_34603312 alen_34603312 rfl (by omega) (by decide) ?_))
      simp only [io_nat hc31]
      refine wp_sw (wp_ret (k _ _ ?_ rfl))
      rw [show gI (wI σ 35651888 0 (c + 1) (Int32.ofNat ((f + 1) % 2000))) 34603312 0 (c + 1) = Int32.ofNat (l.length + 1) from by rw [gI_wI, if_neg (fun e => absurd e.1 (by decide)), ← hlen]; exact g2, show Int32.ofNat (l.length + 1) - 1 = Int32.ofNat l.length from by rw [show (1 : Int32) = Int32.ofNat 1 from rfl, io_sub (by omega)]; rfl]
      exact m_Qt hM g3 g4 hq
