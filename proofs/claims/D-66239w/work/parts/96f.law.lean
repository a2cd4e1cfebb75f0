/-! PART 96f (src 96f.law.src, printed by wip/gen/g96b.py): the law's cases -/
set_option maxHeartbeats 1600000
set_option maxRecDepth 100000
theorem lc_7 {L n i : Nat} {xs : Nat → Int32} {A : w_A} {σ : z_St} (h31 : L ≤ 704) (hi : i + 10 < L) (hn : n + 2000000 < 2147483648) (hJ : z_JJ L n xs A σ) (hN : vN A 5 0 + 2000 ≤ 200000) {Q : z_St → Option z_V → Prop} (k63 : ∀ σ', z_st1c L n xs A σ' → wp (E xP248 (zD 20) 63 (z_LS i) [] σ') Q) : wp (E xP248 (zD 20) 7 (z_LS i) [] σ) Q := by
  have go : ∀ b : Int32, (b = 0 ∨ b = 1) → (b = if xs (i + 1) = 0 then 0 else 1) → wp (E xP248 (zD 20) 10 (z_LS i) [.inl b, .inr (.inr (some (0, 0)))] σ) Q := by
    intro b hb hbe
    refine lw_eq ?_
    show wp (z_run xB248_10.1 xB248_10.2 _ _ _ _ _) Q
    unfold xB248_10
    dsimp only
    refine lw_cr (q := (0, 0)) rfl rfl (Nat.le_of_ble_eq_true rfl) ?_
    refine xc_peer (d := 17) hJ.1 hJ.2.2.1.1.1.1.1 hJ.2.2.2.1 (hJ.2.2.1.2.1.1 _ (Nat.le_refl _)).1 (hJ.2.2.1.2.1.1 _ (Nat.le_refl _)).2 hb fun T1 σ1 v1 hT1 hc1 hX1 hv1 => ⟨_, hv1, ?_⟩
    obtain ⟨hM1, hx1, hL1⟩ := JJ_mid hJ hT1 hc1 hX1
    refine lw_1 (fun _ => rfl) ?_
    refine lw_ld hx1 hL1 1 rfl (by omega) h31 ?_
    have go2 : ∀ c : Int32, c = b → wp (E xP248 (zD 20) 13 (z_LS i) [.inl c, .inr (.inr (some (8, 0))), .inl (fn_cPeer A b).2] σ1) Q := by
      intro c hcb
      subst hcb
      refine lw_eq ?_
      show wp (z_run xB248_13.1 xB248_13.2 _ _ _ _ _) Q
      unfold xB248_13
      dsimp only
      refine lw_cr (q := (8, 0)) rfl rfl (Nat.le_of_ble_eq_true rfl) ?_
      refine mc_peer (d := 19) hM1 hJ.2.2.1.1.1.1.1 hb fun σ2 v2 hM2 hv2 => ⟨_, hv2, ?_⟩
      refine lw_icmp ?_
      exact k63 σ2 ⟨_, JJ_end hc1 hX1 hM2 hx1 (V_mono (by omega) (V_peer hJ.2.2.1 _)), Nat.le_trans (Nat.le_of_eq (now_peer ..)) (by omega)⟩
    refine lw_if0 (fun g => ?_) (fun g => ?_)
    · rw [if_pos g] at hbe
      refine lw_eq ?_
      show wp (z_run xB248_12.1 xB248_12.2 _ _ _ _ _) Q
      unfold xB248_12
      dsimp only
      exact lw_1 (fun _ => rfl) (lw_goto (go2 0 hbe.symm))
    · rw [if_neg g] at hbe
      refine lw_eq ?_
      show wp (z_run xB248_11.1 xB248_11.2 _ _ _ _ _) Q
      unfold xB248_11
      dsimp only
      exact lw_1 (fun _ => rfl) (lw_goto (go2 1 hbe.symm))
  refine lw_eq ?_
  show wp (z_run xB248_7.1 xB248_7.2 _ _ _ _ _) Q
  unfold xB248_7
  dsimp only
  refine lw_1 (fun _ => rfl) ?_
  refine lw_ld hJ.2.2.2.2 hJ.2.2.2.1.1 1 rfl (by omega) h31 ?_
  refine lw_if0 (fun g => ?_) (fun g => ?_)
  · refine lw_eq ?_
    show wp (z_run xB248_9.1 xB248_9.2 _ _ _ _ _) Q
    unfold xB248_9
    dsimp only
    exact lw_1 (fun _ => rfl) (lw_goto (go 0 (.inl rfl) (by rw [if_pos g])))
  · refine lw_eq ?_
    show wp (z_run xB248_8.1 xB248_8.2 _ _ _ _ _) Q
    unfold xB248_8
    dsimp only
    exact lw_1 (fun _ => rfl) (lw_goto (go 1 (.inr rfl) (by rw [if_neg g])))
theorem lc_19 {L n i : Nat} {xs : Nat → Int32} {A : w_A} {σ : z_St} (h31 : L ≤ 704) (hi : i + 10 < L) (hn : n + 2000000 < 2147483648) (hJ : z_JJ L n xs A σ) (hN : vN A 5 0 + 2000 ≤ 200000) {Q : z_St → Option z_V → Prop} (k63 : ∀ σ', z_st1c L n xs A σ' → wp (E xP248 (zD 20) 63 (z_LS i) [] σ') Q) : wp (E xP248 (zD 20) 19 (z_LS i) [] σ) Q := by
  have go : ∀ b : Int32, (b = if xs (i + 2) = 0 then 0 else 1) → wp (E xP248 (zD 20) 22 (z_LS i) [.inl b, .inl (xs (i + 1)), .inr (.inr (some (0, 0)))] σ) Q := by
    intro b hbe
    refine lw_eq ?_
    show wp (z_run xB248_22.1 xB248_22.2 _ _ _ _ _) Q
    unfold xB248_22
    dsimp only
    refine lw_cr (q := (0, 0)) rfl rfl (Nat.le_of_ble_eq_true rfl) ?_
    refine xc_connected (d := 9) hJ.1 hJ.2.2.1.1.1.1 hJ.2.2.1.1.2.2.2.2.2.2.2.1 (C_SS hJ.2.2.1.1) (by omega) fun σ1 v1 hX1 hv1 => ⟨_, hv1, ?_⟩
    have hc1 := ct_X hX1 hJ.2.2.2.1 (cnt_conn _ _ _)
    obtain ⟨hM1, hx1, hL1⟩ := JJ_mid hJ rfl hc1 hX1
    refine lw_1 (fun _ => rfl) ?_
    refine lw_ld hx1 hL1 1 rfl (by omega) h31 ?_
    refine lw_ld hx1 hL1 2 rfl (by omega) h31 ?_
    have go2 : ∀ c : Int32, c = b → wp (E xP248 (zD 20) 25 (z_LS i) [.inl c, .inl (xs (i + 1)), .inr (.inr (some (8, 0))), .inl (fn_cConn A (xs (i + 1)) b).2] σ1) Q := by
      intro c hcb
      subst hcb
      refine lw_eq ?_
      show wp (z_run xB248_25.1 xB248_25.2 _ _ _ _ _) Q
      unfold xB248_25
      dsimp only
      refine lw_cr (q := (8, 0)) rfl rfl (Nat.le_of_ble_eq_true rfl) ?_
      refine mc_connected (d := 10) hM1 hJ.2.2.1.1.1.1 (C_SS hJ.2.2.1.1) (by omega) fun σ2 v2 hM2 hv2 => ⟨_, hv2, ?_⟩
      refine lw_icmp ?_
      exact k63 σ2 ⟨_, JJ_end hc1 hX1 hM2 hx1 (V_mono (by omega) (V_conn hJ.2.2.1 (by omega) _ _)), Nat.le_trans (Nat.le_of_eq (now_conn ..)) (by omega)⟩
    refine lw_if0 (fun g => ?_) (fun g => ?_)
    · rw [if_pos g] at hbe
      refine lw_eq ?_
      show wp (z_run xB248_24.1 xB248_24.2 _ _ _ _ _) Q
      unfold xB248_24
      dsimp only
      exact lw_1 (fun _ => rfl) (lw_goto (go2 0 hbe.symm))
    · rw [if_neg g] at hbe
      refine lw_eq ?_
      show wp (z_run xB248_23.1 xB248_23.2 _ _ _ _ _) Q
      unfold xB248_23
      dsimp only
      exact lw_1 (fun _ => rfl) (lw_goto (go2 1 hbe.symm))
  refine lw_eq ?_
  show wp (z_run xB248_19.1 xB248_19.2 _ _ _ _ _) Q
  unfold xB248_19
  dsimp only
  refine lw_1 (fun _ => rfl) ?_
  refine lw_ld hJ.2.2.2.2 hJ.2.2.2.1.1 1 rfl (by omega) h31 ?_
  refine lw_ld hJ.2.2.2.2 hJ.2.2.2.1.1 2 rfl (by omega) h31 ?_
  refine lw_if0 (fun g => ?_) (fun g => ?_)
  · refine lw_eq ?_
    show wp (z_run xB248_21.1 xB248_21.2 _ _ _ _ _) Q
    unfold xB248_21
    dsimp only
    exact lw_1 (fun _ => rfl) (lw_goto (go 0 (by rw [if_pos g])))
  · refine lw_eq ?_
    show wp (z_run xB248_20.1 xB248_20.2 _ _ _ _ _) Q
    unfold xB248_20
    dsimp only
    exact lw_1 (fun _ => rfl) (lw_goto (go 1 (by rw [if_neg g])))
theorem lc_27 {L n i : Nat} {xs : Nat → Int32} {A : w_A} {σ : z_St} (h31 : L ≤ 704) (hi : i + 10 < L) (hn : n + 2000000 < 2147483648) (hJ : z_JJ L n xs A σ) (hN : vN A 5 0 + 2000 ≤ 200000) {Q : z_St → Option z_V → Prop} (k63 : ∀ σ', z_st1c L n xs A σ' → wp (E xP248 (zD 20) 63 (z_LS i) [] σ') Q) : wp (E xP248 (zD 20) 27 (z_LS i) [] σ) Q := by
  refine lw_eq ?_
  show wp (z_run xB248_27.1 xB248_27.2 _ _ _ _ _) Q
  unfold xB248_27
  dsimp only
  refine lw_1 (fun _ => rfl) ?_
  refine lw_ld hJ.2.2.2.2 hJ.2.2.2.1.1 1 rfl (by omega) h31 ?_
  refine lw_ld hJ.2.2.2.2 hJ.2.2.2.1.1 2 rfl (by omega) h31 ?_
  refine lw_1 (fun _ => rfl) ?_
  refine lw_1 (fun _ => rfl) ?_
  refine lw_1 (fun _ => rfl) ?_
  refine lw_ld hJ.2.2.2.2 hJ.2.2.2.1.1 3 rfl (by omega) h31 ?_
  refine lw_1 (fun _ => rfl) ?_
  refine lw_1 (fun _ => rfl) ?_
  refine lw_1 (fun _ => rfl) ?_
  refine lw_1 (fun _ => rfl) ?_
  refine lw_ld hJ.2.2.2.2 hJ.2.2.2.1.1 4 rfl (by omega) h31 ?_
  refine lw_1 (fun _ => rfl) ?_
  refine lw_1 (fun _ => rfl) ?_
  refine lw_1 (fun _ => rfl) ?_
  refine lw_ld hJ.2.2.2.2 hJ.2.2.2.1.1 5 rfl (by omega) h31 ?_
  refine lw_1 (fun _ => rfl) ?_
  refine lw_1 (fun _ => rfl) ?_
  refine lw_1 (fun _ => rfl) ?_
  refine lw_1 (fun _ => rfl) ?_
  refine lw_ld hJ.2.2.2.2 hJ.2.2.2.1.1 6 rfl (by omega) h31 ?_
  refine lw_1 (fun _ => rfl) ?_
  refine lw_1 (fun _ => rfl) ?_
  refine lw_1 (fun _ => rfl) ?_
  refine lw_ld hJ.2.2.2.2 hJ.2.2.2.1.1 7 rfl (by omega) h31 ?_
  refine lw_1 (fun _ => rfl) ?_
  refine lw_1 (fun _ => rfl) ?_
  refine lw_1 (fun _ => rfl) ?_
  refine lw_1 (fun _ => rfl) ?_
  refine lw_ld hJ.2.2.2.2 hJ.2.2.2.1.1 8 rfl (by omega) h31 ?_
  refine lw_1 (fun _ => rfl) ?_
  refine lw_1 (fun _ => rfl) ?_
  refine lw_1 (fun _ => rfl) ?_
  refine lw_ld hJ.2.2.2.2 hJ.2.2.2.1.1 9 rfl (by omega) h31 ?_
  refine lw_1 (fun _ => rfl) ?_
  refine lw_1 (fun _ => rfl) ?_
  refine lw_1 (fun _ => rfl) ?_
  refine lw_1 (fun _ => rfl) ?_
  refine lw_ld hJ.2.2.2.2 hJ.2.2.2.1.1 10 rfl (by omega) h31 ?_
  refine lw_cr (q := (0, 0)) rfl rfl (Nat.le_of_ble_eq_true rfl) ?_
  refine xc_feed (d := 7) hJ.1 hJ.2.2.1.2.2 hJ.2.2.1.1 (by omega) fun σ1 v1 hX1 hv1 => ⟨_, hv1, ?_⟩
  have hc1 := ct_X hX1 hJ.2.2.2.1 (cnt_feed hJ.2.2.1 (by omega) _ _ _ _ _ _)
  obtain ⟨hM1, hx1, hL1⟩ := JJ_mid hJ rfl hc1 hX1
  refine lw_1 (fun _ => rfl) ?_
  refine lw_ld hx1 hL1 1 rfl (by omega) h31 ?_
  refine lw_ld hx1 hL1 2 rfl (by omega) h31 ?_
  refine lw_1 (fun _ => rfl) ?_
  refine lw_1 (fun _ => rfl) ?_
  refine lw_1 (fun _ => rfl) ?_
  refine lw_ld hx1 hL1 3 rfl (by omega) h31 ?_
  refine lw_1 (fun _ => rfl) ?_
  refine lw_1 (fun _ => rfl) ?_
  refine lw_1 (fun _ => rfl) ?_
  refine lw_1 (fun _ => rfl) ?_
  refine lw_ld hx1 hL1 4 rfl (by omega) h31 ?_
  refine lw_1 (fun _ => rfl) ?_
  refine lw_1 (fun _ => rfl) ?_
  refine lw_1 (fun _ => rfl) ?_
  refine lw_ld hx1 hL1 5 rfl (by omega) h31 ?_
  refine lw_1 (fun _ => rfl) ?_
  refine lw_1 (fun _ => rfl) ?_
  refine lw_1 (fun _ => rfl) ?_
  refine lw_1 (fun _ => rfl) ?_
  refine lw_ld hx1 hL1 6 rfl (by omega) h31 ?_
  refine lw_1 (fun _ => rfl) ?_
  refine lw_1 (fun _ => rfl) ?_
  refine lw_1 (fun _ => rfl) ?_
  refine lw_ld hx1 hL1 7 rfl (by omega) h31 ?_
  refine lw_1 (fun _ => rfl) ?_
  refine lw_1 (fun _ => rfl) ?_
  refine lw_1 (fun _ => rfl) ?_
  refine lw_1 (fun _ => rfl) ?_
  refine lw_ld hx1 hL1 8 rfl (by omega) h31 ?_
  refine lw_1 (fun _ => rfl) ?_
  refine lw_1 (fun _ => rfl) ?_
  refine lw_1 (fun _ => rfl) ?_
  refine lw_ld hx1 hL1 9 rfl (by omega) h31 ?_
  refine lw_1 (fun _ => rfl) ?_
  refine lw_1 (fun _ => rfl) ?_
  refine lw_1 (fun _ => rfl) ?_
  refine lw_1 (fun _ => rfl) ?_
  refine lw_ld hx1 hL1 10 rfl (by omega) h31 ?_
  refine lw_cr (q := (8, 0)) rfl rfl (Nat.le_of_ble_eq_true rfl) ?_
  refine mc_feed (d := 8) hM1 hJ.2.2.1.2.2 hJ.2.2.1.1 (by omega) fun σ2 v2 hM2 hv2 => ⟨_, hv2, ?_⟩
  refine lw_icmp ?_
  have hV := V_feed hJ.2.2.1 (by omega) (xs (i + 1)) (lg (xs (i + 2)) (xs (i + 3))) (lg (xs (i + 4)) (xs (i + 5))) (lg (xs (i + 6)) (xs (i + 7))) (lg (xs (i + 8)) (xs (i + 9))) (xs (i + 10))
  exact k63 σ2 ⟨_, JJ_end hc1 hX1 hM2 hx1 (V_mono (by omega) hV.1), Nat.le_trans (Nat.le_of_eq hV.2) (by omega)⟩
