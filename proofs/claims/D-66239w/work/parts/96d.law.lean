/-! PART 96d (src 96d.law.src, printed by wip/gen/g96b.py): the law's cases -/
set_option maxHeartbeats 1600000
set_option maxRecDepth 100000
theorem lc_33 {L n i : Nat} {xs : Nat → Int32} {A : w_A} {σ : z_St} (h31 : L ≤ 704) (hi : i + 10 < L) (hn : n + 2000000 < 2147483648) (hJ : z_JJ L n xs A σ) (hN : vN A 5 0 + 2000 ≤ 200000) {Q : z_St → Option z_V → Prop} (k63 : ∀ σ', z_st1c L n xs A σ' → wp (E xP248 (zD 20) 63 (z_LS i) [] σ') Q) : wp (E xP248 (zD 20) 33 (z_LS i) [] σ) Q := by
  refine lw_eq ?_
  show wp (z_run xB248_33.1 xB248_33.2 _ _ _ _ _) Q
  unfold xB248_33
  dsimp only
  refine lw_1 (fun _ => rfl) ?_
  refine lw_ld hJ.2.2.2.2 hJ.2.2.2.1.1 1 rfl (by omega) h31 ?_
  refine lw_cr (q := (0, 0)) rfl rfl (Nat.le_of_ble_eq_true rfl) ?_
  refine xc_tick (d := 8) hJ.1 hJ.2.2.1.1 (by omega) (by omega) fun σ1 v1 hX1 hv1 => ⟨_, hv1, ?_⟩
  have hc1 := ct_X hX1 hJ.2.2.2.1 (cnt_tick hJ.2.2.1 (by omega) (by omega) _)
  obtain ⟨hM1, hx1, hL1⟩ := JJ_mid hJ rfl hc1 hX1
  refine lw_1 (fun _ => rfl) ?_
  refine lw_ld hx1 hL1 1 rfl (by omega) h31 ?_
  refine lw_cr (q := (8, 0)) rfl rfl (Nat.le_of_ble_eq_true rfl) ?_
  refine mc_tick (d := 10) hM1 hJ.2.2.1.1 (by omega) (by omega) fun σ2 v2 hM2 hv2 => ⟨_, hv2, ?_⟩
  refine lw_icmp ?_
  have hV := V_tick hJ.2.2.1 (by omega) (by omega) (xs (i + 1))
  exact k63 σ2 ⟨_, JJ_end hc1 hX1 hM2 hx1 (V_mono (by omega) hV.1), hV.2⟩
theorem lc_35 {L n i : Nat} {xs : Nat → Int32} {A : w_A} {σ : z_St} (h31 : L ≤ 704) (hi : i + 10 < L) (hn : n + 2000000 < 2147483648) (hJ : z_JJ L n xs A σ) (hN : vN A 5 0 + 2000 ≤ 200000) {Q : z_St → Option z_V → Prop} (k63 : ∀ σ', z_st1c L n xs A σ' → wp (E xP248 (zD 20) 63 (z_LS i) [] σ') Q) : wp (E xP248 (zD 20) 35 (z_LS i) [] σ) Q := by
  refine lw_eq ?_
  show wp (z_run xB248_35.1 xB248_35.2 _ _ _ _ _) Q
  unfold xB248_35
  dsimp only
  refine lw_1 (fun _ => rfl) ?_
  refine lw_cr (q := (0, 0)) rfl rfl (Nat.le_of_ble_eq_true rfl) ?_
  refine xc_clock (d := 19) hJ.1  fun σ1 v1 hX1 hv1 => ⟨_, hv1, ?_⟩
  have hc1 := hJ.2.2.2.1
  obtain ⟨hM1, hx1, hL1⟩ := JJ_mid hJ rfl hc1 hX1
  refine lw_1 (fun _ => rfl) ?_
  refine lw_cr (q := (8, 0)) rfl rfl (Nat.le_of_ble_eq_true rfl) ?_
  refine mc_clock (d := 19) hM1  fun σ2 v2 hM2 hv2 => ⟨_, hv2, ?_⟩
  refine lw_icmp ?_
  exact k63 σ2 ⟨A, JJ_end hc1 hX1 hM2 hx1 (V_mono (by omega) hJ.2.2.1), by omega⟩
theorem lc_37 {L n i : Nat} {xs : Nat → Int32} {A : w_A} {σ : z_St} (h31 : L ≤ 704) (hi : i + 10 < L) (hn : n + 2000000 < 2147483648) (hJ : z_JJ L n xs A σ) (hN : vN A 5 0 + 2000 ≤ 200000) {Q : z_St → Option z_V → Prop} (k63 : ∀ σ', z_st1c L n xs A σ' → wp (E xP248 (zD 20) 63 (z_LS i) [] σ') Q) : wp (E xP248 (zD 20) 37 (z_LS i) [] σ) Q := by
  refine lw_eq ?_
  show wp (z_run xB248_37.1 xB248_37.2 _ _ _ _ _) Q
  unfold xB248_37
  dsimp only
  refine lw_1 (fun _ => rfl) ?_
  refine lw_ld hJ.2.2.2.2 hJ.2.2.2.1.1 1 rfl (by omega) h31 ?_
  refine lw_cr (q := (0, 0)) rfl rfl (Nat.le_of_ble_eq_true rfl) ?_
  refine xc_take (d := 17) hJ.1  fun σ1 v1 hX1 hv1 => ⟨_, hv1, ?_⟩
  have hc1 := ct_X hX1 hJ.2.2.2.1 (cnt_take _ _)
  obtain ⟨hM1, hx1, hL1⟩ := JJ_mid hJ rfl hc1 hX1
  refine lw_1 (fun _ => rfl) ?_
  refine lw_ld hx1 hL1 1 rfl (by omega) h31 ?_
  refine lw_cr (q := (8, 0)) rfl rfl (Nat.le_of_ble_eq_true rfl) ?_
  refine mc_take (d := 18) hM1  fun σ2 v2 hM2 hv2 => ⟨_, hv2, ?_⟩
  refine lw_icmp ?_
  exact k63 σ2 ⟨_, JJ_end hc1 hX1 hM2 hx1 (V_mono (by omega) (V_take hJ.2.2.1 _)), Nat.le_trans (Nat.le_of_eq (now_take ..)) (by omega)⟩
theorem lc_39 {L n i : Nat} {xs : Nat → Int32} {A : w_A} {σ : z_St} (h31 : L ≤ 704) (hi : i + 10 < L) (hn : n + 2000000 < 2147483648) (hJ : z_JJ L n xs A σ) (hN : vN A 5 0 + 2000 ≤ 200000) {Q : z_St → Option z_V → Prop} (k63 : ∀ σ', z_st1c L n xs A σ' → wp (E xP248 (zD 20) 63 (z_LS i) [] σ') Q) : wp (E xP248 (zD 20) 39 (z_LS i) [] σ) Q := by
  refine lw_eq ?_
  show wp (z_run xB248_39.1 xB248_39.2 _ _ _ _ _) Q
  unfold xB248_39
  dsimp only
  refine lw_1 (fun _ => rfl) ?_
  refine lw_ld hJ.2.2.2.2 hJ.2.2.2.1.1 1 rfl (by omega) h31 ?_
  refine lw_cr (q := (0, 0)) rfl rfl (Nat.le_of_ble_eq_true rfl) ?_
  refine xc_waiting (d := 17) hJ.1  fun σ1 v1 hX1 hv1 => ⟨_, hv1, ?_⟩
  have hc1 := hJ.2.2.2.1
  obtain ⟨hM1, hx1, hL1⟩ := JJ_mid hJ rfl hc1 hX1
  refine lw_1 (fun _ => rfl) ?_
  refine lw_ld hx1 hL1 1 rfl (by omega) h31 ?_
  refine lw_cr (q := (8, 0)) rfl rfl (Nat.le_of_ble_eq_true rfl) ?_
  refine mc_waiting (d := 18) hM1  fun σ2 v2 hM2 hv2 => ⟨_, hv2, ?_⟩
  refine lw_icmp ?_
  exact k63 σ2 ⟨A, JJ_end hc1 hX1 hM2 hx1 (V_mono (by omega) hJ.2.2.1), by omega⟩
theorem lc_41 {L n i : Nat} {xs : Nat → Int32} {A : w_A} {σ : z_St} (h31 : L ≤ 704) (hi : i + 10 < L) (hn : n + 2000000 < 2147483648) (hJ : z_JJ L n xs A σ) (hN : vN A 5 0 + 2000 ≤ 200000) {Q : z_St → Option z_V → Prop} (k63 : ∀ σ', z_st1c L n xs A σ' → wp (E xP248 (zD 20) 63 (z_LS i) [] σ') Q) : wp (E xP248 (zD 20) 41 (z_LS i) [] σ) Q := by
  refine lw_eq ?_
  show wp (z_run xB248_41.1 xB248_41.2 _ _ _ _ _) Q
  unfold xB248_41
  dsimp only
  refine lw_1 (fun _ => rfl) ?_
  refine lw_ld hJ.2.2.2.2 hJ.2.2.2.1.1 1 rfl (by omega) h31 ?_
  refine lw_ld hJ.2.2.2.2 hJ.2.2.2.1.1 2 rfl (by omega) h31 ?_
  refine lw_cr (q := (0, 0)) rfl rfl (Nat.le_of_ble_eq_true rfl) ?_
  refine xc_connection (d := 17) hJ.1 (C_CR hJ.2.2.1.1.1) fun σ1 v1 hX1 hv1 => ⟨_, hv1, ?_⟩
  have hc1 := hJ.2.2.2.1
  obtain ⟨hM1, hx1, hL1⟩ := JJ_mid hJ rfl hc1 hX1
  refine lw_1 (fun _ => rfl) ?_
  refine lw_ld hx1 hL1 1 rfl (by omega) h31 ?_
  refine lw_ld hx1 hL1 2 rfl (by omega) h31 ?_
  refine lw_cr (q := (8, 0)) rfl rfl (Nat.le_of_ble_eq_true rfl) ?_
  refine mc_connection (d := 18) hM1  fun σ2 v2 hM2 hv2 => ⟨_, hv2, ?_⟩
  refine lw_icmp ?_
  exact k63 σ2 ⟨A, JJ_end hc1 hX1 hM2 hx1 (V_mono (by omega) hJ.2.2.1), by omega⟩
theorem lc_43 {L n i : Nat} {xs : Nat → Int32} {A : w_A} {σ : z_St} (h31 : L ≤ 704) (hi : i + 10 < L) (hn : n + 2000000 < 2147483648) (hJ : z_JJ L n xs A σ) (hN : vN A 5 0 + 2000 ≤ 200000) {Q : z_St → Option z_V → Prop} (k63 : ∀ σ', z_st1c L n xs A σ' → wp (E xP248 (zD 20) 63 (z_LS i) [] σ') Q) : wp (E xP248 (zD 20) 43 (z_LS i) [] σ) Q := by
  refine lw_eq ?_
  show wp (z_run xB248_43.1 xB248_43.2 _ _ _ _ _) Q
  unfold xB248_43
  dsimp only
  refine lw_1 (fun _ => rfl) ?_
  refine lw_ld hJ.2.2.2.2 hJ.2.2.2.1.1 1 rfl (by omega) h31 ?_
  refine lw_ld hJ.2.2.2.2 hJ.2.2.2.1.1 2 rfl (by omega) h31 ?_
  refine lw_cr (q := (0, 0)) rfl rfl (Nat.le_of_ble_eq_true rfl) ?_
  refine xc_state (d := 17) hJ.1 hJ.2.2.1.1.1.1.1 fun σ1 v1 hX1 hv1 => ⟨_, hv1, ?_⟩
  have hc1 := hJ.2.2.2.1
  obtain ⟨hM1, hx1, hL1⟩ := JJ_mid hJ rfl hc1 hX1
  refine lw_1 (fun _ => rfl) ?_
  refine lw_ld hx1 hL1 1 rfl (by omega) h31 ?_
  refine lw_ld hx1 hL1 2 rfl (by omega) h31 ?_
  refine lw_cr (q := (8, 0)) rfl rfl (Nat.le_of_ble_eq_true rfl) ?_
  refine mc_state (d := 18) hM1 hJ.2.2.1.1.1.1.1 fun σ2 v2 hM2 hv2 => ⟨_, hv2, ?_⟩
  refine lw_icmp ?_
  exact k63 σ2 ⟨A, JJ_end hc1 hX1 hM2 hx1 (V_mono (by omega) hJ.2.2.1), by omega⟩
