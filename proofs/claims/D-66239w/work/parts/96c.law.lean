/-! PART 96c (src 96c.law.src, printed by wip/gen/g96b.py): the law's cases -/
set_option maxHeartbeats 1600000
set_option maxRecDepth 100000
theorem lc_3 {L n i : Nat} {xs : Nat → Int32} {A : w_A} {σ : z_St} (h31 : L ≤ 704) (hi : i + 10 < L) (hn : n + 2000000 < 2147483648) (hJ : z_JJ L n xs A σ) (hN : vN A 5 0 + 2000 ≤ 200000) {Q : z_St → Option z_V → Prop} (k63 : ∀ σ', z_st1c L n xs A σ' → wp (E xP248 (zD 20) 63 (z_LS i) [] σ') Q) : wp (E xP248 (zD 20) 3 (z_LS i) [] σ) Q := by
  refine lw_eq ?_
  show wp (z_run xB248_3.1 xB248_3.2 _ _ _ _ _) Q
  unfold xB248_3
  dsimp only
  refine lw_1 (fun _ => rfl) ?_
  refine lw_ld hJ.2.2.2.2 hJ.2.2.2.1.1 1 rfl (by omega) h31 ?_
  refine lw_cr (q := (0, 0)) rfl rfl (Nat.le_of_ble_eq_true rfl) ?_
  refine xc_sign (d := 18) hJ.1 hJ.2.2.1.1.1.1.1 fun σ1 v1 hX1 hv1 => ⟨_, hv1, ?_⟩
  have hc1 := ct_X hX1 hJ.2.2.2.1 (cnt_sign _ _)
  obtain ⟨hM1, hx1, hL1⟩ := JJ_mid hJ rfl hc1 hX1
  refine lw_1 (fun _ => rfl) ?_
  refine lw_ld hx1 hL1 1 rfl (by omega) h31 ?_
  refine lw_cr (q := (8, 0)) rfl rfl (Nat.le_of_ble_eq_true rfl) ?_
  refine mc_sign (d := 18) hM1 hJ.2.2.1.1.1.1.1 fun σ2 v2 hM2 hv2 => ⟨_, hv2, ?_⟩
  refine lw_icmp ?_
  exact k63 σ2 ⟨_, JJ_end hc1 hX1 hM2 hx1 (V_mono (by omega) (V_sign hJ.2.2.1 _)), Nat.le_trans (Nat.le_of_eq (now_sign ..)) (by omega)⟩
theorem lc_5 {L n i : Nat} {xs : Nat → Int32} {A : w_A} {σ : z_St} (h31 : L ≤ 704) (hi : i + 10 < L) (hn : n + 2000000 < 2147483648) (hJ : z_JJ L n xs A σ) (hN : vN A 5 0 + 2000 ≤ 200000) {Q : z_St → Option z_V → Prop} (k63 : ∀ σ', z_st1c L n xs A σ' → wp (E xP248 (zD 20) 63 (z_LS i) [] σ') Q) : wp (E xP248 (zD 20) 5 (z_LS i) [] σ) Q := by
  refine lw_eq ?_
  show wp (z_run xB248_5.1 xB248_5.2 _ _ _ _ _) Q
  unfold xB248_5
  dsimp only
  refine lw_1 (fun _ => rfl) ?_
  refine lw_cr (q := (0, 0)) rfl rfl (Nat.le_of_ble_eq_true rfl) ?_
  refine xc_own (d := 18) hJ.1 hJ.2.2.1.1.1.1.1 fun σ1 v1 hX1 hv1 => ⟨_, hv1, ?_⟩
  have hc1 := ct_X hX1 hJ.2.2.2.1 (cnt_own _)
  obtain ⟨hM1, hx1, hL1⟩ := JJ_mid hJ rfl hc1 hX1
  refine lw_1 (fun _ => rfl) ?_
  refine lw_cr (q := (8, 0)) rfl rfl (Nat.le_of_ble_eq_true rfl) ?_
  refine mc_own (d := 19) hM1 hJ.2.2.1.1.1.1.1 fun σ2 v2 hM2 hv2 => ⟨_, hv2, ?_⟩
  refine lw_icmp ?_
  exact k63 σ2 ⟨_, JJ_end hc1 hX1 hM2 hx1 (V_mono (by omega) (V_own hJ.2.2.1)), Nat.le_trans (Nat.le_of_eq (now_own ..)) (by omega)⟩
theorem lc_15 {L n i : Nat} {xs : Nat → Int32} {A : w_A} {σ : z_St} (h31 : L ≤ 704) (hi : i + 10 < L) (hn : n + 2000000 < 2147483648) (hJ : z_JJ L n xs A σ) (hN : vN A 5 0 + 2000 ≤ 200000) {Q : z_St → Option z_V → Prop} (k63 : ∀ σ', z_st1c L n xs A σ' → wp (E xP248 (zD 20) 63 (z_LS i) [] σ') Q) : wp (E xP248 (zD 20) 15 (z_LS i) [] σ) Q := by
  refine lw_eq ?_
  show wp (z_run xB248_15.1 xB248_15.2 _ _ _ _ _) Q
  unfold xB248_15
  dsimp only
  refine lw_1 (fun _ => rfl) ?_
  refine lw_ld hJ.2.2.2.2 hJ.2.2.2.1.1 1 rfl (by omega) h31 ?_
  refine lw_cr (q := (0, 0)) rfl rfl (Nat.le_of_ble_eq_true rfl) ?_
  refine xc_start (d := 10) hJ.1 hJ.2.2.1.1.1.1 (by omega) fun σ1 v1 hX1 hv1 => ⟨_, hv1, ?_⟩
  have hc1 := ct_X hX1 hJ.2.2.2.1 (cnt_start _ _)
  obtain ⟨hM1, hx1, hL1⟩ := JJ_mid hJ rfl hc1 hX1
  refine lw_1 (fun _ => rfl) ?_
  refine lw_ld hx1 hL1 1 rfl (by omega) h31 ?_
  refine lw_cr (q := (8, 0)) rfl rfl (Nat.le_of_ble_eq_true rfl) ?_
  refine mc_start (d := 11) hM1 hJ.2.2.1.1.1.1 (by omega) fun σ2 v2 hM2 hv2 => ⟨_, hv2, ?_⟩
  refine lw_icmp ?_
  exact k63 σ2 ⟨_, JJ_end hc1 hX1 hM2 hx1 (V_mono (by omega) (V_start hJ.2.2.1 (by omega) _)), Nat.le_trans (Nat.le_of_eq (now_start ..)) (by omega)⟩
theorem lc_17 {L n i : Nat} {xs : Nat → Int32} {A : w_A} {σ : z_St} (h31 : L ≤ 704) (hi : i + 10 < L) (hn : n + 2000000 < 2147483648) (hJ : z_JJ L n xs A σ) (hN : vN A 5 0 + 2000 ≤ 200000) {Q : z_St → Option z_V → Prop} (k63 : ∀ σ', z_st1c L n xs A σ' → wp (E xP248 (zD 20) 63 (z_LS i) [] σ') Q) : wp (E xP248 (zD 20) 17 (z_LS i) [] σ) Q := by
  refine lw_eq ?_
  show wp (z_run xB248_17.1 xB248_17.2 _ _ _ _ _) Q
  unfold xB248_17
  dsimp only
  refine lw_1 (fun _ => rfl) ?_
  refine lw_cr (q := (0, 0)) rfl rfl (Nat.le_of_ble_eq_true rfl) ?_
  refine xc_accept (d := 18) hJ.1  fun σ1 v1 hX1 hv1 => ⟨_, hv1, ?_⟩
  have hc1 := ct_X hX1 hJ.2.2.2.1 (cnt_accept _)
  obtain ⟨hM1, hx1, hL1⟩ := JJ_mid hJ rfl hc1 hX1
  refine lw_1 (fun _ => rfl) ?_
  refine lw_cr (q := (8, 0)) rfl rfl (Nat.le_of_ble_eq_true rfl) ?_
  refine mc_accept (d := 18) hM1  fun σ2 v2 hM2 hv2 => ⟨_, hv2, ?_⟩
  refine lw_icmp ?_
  exact k63 σ2 ⟨_, JJ_end hc1 hX1 hM2 hx1 (V_mono (by omega) (V_accept hJ.2.2.1)), Nat.le_trans (Nat.le_of_eq (now_accept ..)) (by omega)⟩
theorem lc_29 {L n i : Nat} {xs : Nat → Int32} {A : w_A} {σ : z_St} (h31 : L ≤ 704) (hi : i + 10 < L) (hn : n + 2000000 < 2147483648) (hJ : z_JJ L n xs A σ) (hN : vN A 5 0 + 2000 ≤ 200000) {Q : z_St → Option z_V → Prop} (k63 : ∀ σ', z_st1c L n xs A σ' → wp (E xP248 (zD 20) 63 (z_LS i) [] σ') Q) : wp (E xP248 (zD 20) 29 (z_LS i) [] σ) Q := by
  refine lw_eq ?_
  show wp (z_run xB248_29.1 xB248_29.2 _ _ _ _ _) Q
  unfold xB248_29
  dsimp only
  refine lw_1 (fun _ => rfl) ?_
  refine lw_ld hJ.2.2.2.2 hJ.2.2.2.1.1 1 rfl (by omega) h31 ?_
  refine lw_cr (q := (0, 0)) rfl rfl (Nat.le_of_ble_eq_true rfl) ?_
  refine xc_gone (d := 9) hJ.1 hJ.2.2.1.1.1.1 (fun c h1 h8 => W_Sc hJ.2.2.1.1 h1 h8) (by omega) fun σ1 v1 hX1 hv1 => ⟨_, hv1, ?_⟩
  have hc1 := ct_X hX1 hJ.2.2.2.1 (cnt_gone _ _)
  obtain ⟨hM1, hx1, hL1⟩ := JJ_mid hJ rfl hc1 hX1
  refine lw_1 (fun _ => rfl) ?_
  refine lw_ld hx1 hL1 1 rfl (by omega) h31 ?_
  refine lw_cr (q := (8, 0)) rfl rfl (Nat.le_of_ble_eq_true rfl) ?_
  refine mc_gone (d := 10) hM1 hJ.2.2.1.1.1.1 (fun c h1 h8 => W_Sc hJ.2.2.1.1 h1 h8) (by omega) fun σ2 v2 hM2 hv2 => ⟨_, hv2, ?_⟩
  refine lw_icmp ?_
  exact k63 σ2 ⟨_, JJ_end hc1 hX1 hM2 hx1 (V_mono (by omega) (V_gone hJ.2.2.1 (by omega) _)), Nat.le_trans (Nat.le_of_eq (now_gone ..)) (by omega)⟩
theorem lc_31 {L n i : Nat} {xs : Nat → Int32} {A : w_A} {σ : z_St} (h31 : L ≤ 704) (hi : i + 10 < L) (hn : n + 2000000 < 2147483648) (hJ : z_JJ L n xs A σ) (hN : vN A 5 0 + 2000 ≤ 200000) {Q : z_St → Option z_V → Prop} (k63 : ∀ σ', z_st1c L n xs A σ' → wp (E xP248 (zD 20) 63 (z_LS i) [] σ') Q) : wp (E xP248 (zD 20) 31 (z_LS i) [] σ) Q := by
  refine lw_eq ?_
  show wp (z_run xB248_31.1 xB248_31.2 _ _ _ _ _) Q
  unfold xB248_31
  dsimp only
  refine lw_1 (fun _ => rfl) ?_
  refine lw_ld hJ.2.2.2.2 hJ.2.2.2.1.1 1 rfl (by omega) h31 ?_
  refine lw_ld hJ.2.2.2.2 hJ.2.2.2.1.1 2 rfl (by omega) h31 ?_
  refine lw_cr (q := (0, 0)) rfl rfl (Nat.le_of_ble_eq_true rfl) ?_
  refine xc_stop (d := 11) hJ.1 hJ.2.2.1.1.1.1 (by omega) fun σ1 v1 hX1 hv1 => ⟨_, hv1, ?_⟩
  have hc1 := ct_X hX1 hJ.2.2.2.1 (cnt_stop _ _ _)
  obtain ⟨hM1, hx1, hL1⟩ := JJ_mid hJ rfl hc1 hX1
  refine lw_1 (fun _ => rfl) ?_
  refine lw_ld hx1 hL1 1 rfl (by omega) h31 ?_
  refine lw_ld hx1 hL1 2 rfl (by omega) h31 ?_
  refine lw_cr (q := (8, 0)) rfl rfl (Nat.le_of_ble_eq_true rfl) ?_
  refine mc_stop (d := 12) hM1 hJ.2.2.1.1.1.1 (by omega) fun σ2 v2 hM2 hv2 => ⟨_, hv2, ?_⟩
  refine lw_icmp ?_
  exact k63 σ2 ⟨_, JJ_end hc1 hX1 hM2 hx1 (V_mono (by omega) (V_stop hJ.2.2.1 (by omega) _ _)), Nat.le_trans (Nat.le_of_eq (now_stop ..)) (by omega)⟩
