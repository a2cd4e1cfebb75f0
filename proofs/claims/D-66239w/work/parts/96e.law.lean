/-! PART 96e (src 96e.law.src, printed by wip/gen/g96b.py): the law's cases -/
set_option maxHeartbeats 1600000
set_option maxRecDepth 100000
theorem lc_45 {L n i : Nat} {xs : Nat → Int32} {A : w_A} {σ : z_St} (h31 : L ≤ 704) (hi : i + 10 < L) (hn : n + 2000000 < 2147483648) (hJ : z_JJ L n xs A σ) (hN : vN A 5 0 + 2000 ≤ 200000) {Q : z_St → Option z_V → Prop} (k63 : ∀ σ', z_st1c L n xs A σ' → wp (E xP248 (zD 20) 63 (z_LS i) [] σ') Q) : wp (E xP248 (zD 20) 45 (z_LS i) [] σ) Q := by
  refine lw_eq ?_
  show wp (z_run xB248_45.1 xB248_45.2 _ _ _ _ _) Q
  unfold xB248_45
  dsimp only
  refine lw_1 (fun _ => rfl) ?_
  refine lw_ld hJ.2.2.2.2 hJ.2.2.2.1.1 1 rfl (by omega) h31 ?_
  refine lw_1 (fun _ => rfl) ?_
  refine lw_1 (fun _ => rfl) ?_
  refine lw_1 (fun _ => rfl) ?_
  refine lw_ld hJ.2.2.2.2 hJ.2.2.2.1.1 2 rfl (by omega) h31 ?_
  refine lw_1 (fun _ => rfl) ?_
  refine lw_1 (fun _ => rfl) ?_
  refine lw_1 (fun _ => rfl) ?_
  refine lw_1 (fun _ => rfl) ?_
  refine lw_ld hJ.2.2.2.2 hJ.2.2.2.1.1 3 rfl (by omega) h31 ?_
  refine lw_1 (fun _ => rfl) ?_
  refine lw_1 (fun _ => rfl) ?_
  refine lw_1 (fun _ => rfl) ?_
  refine lw_ld hJ.2.2.2.2 hJ.2.2.2.1.1 4 rfl (by omega) h31 ?_
  refine lw_1 (fun _ => rfl) ?_
  refine lw_1 (fun _ => rfl) ?_
  refine lw_1 (fun _ => rfl) ?_
  refine lw_1 (fun _ => rfl) ?_
  refine lw_cr (q := (0, 0)) rfl rfl (Nat.le_of_ble_eq_true rfl) ?_
  refine xc_account (d := 17) hJ.1 hJ.2.2.1.1.1.1.1 hJ.2.2.2.1 (hJ.2.2.1.2.1.2.2 _ (Nat.le_refl _)) fun T1 σ1 v1 hT1 hc1 hX1 hv1 => ⟨_, hv1, ?_⟩
  obtain ⟨hM1, hx1, hL1⟩ := JJ_mid hJ hT1 hc1 hX1
  refine lw_1 (fun _ => rfl) ?_
  refine lw_ld hx1 hL1 1 rfl (by omega) h31 ?_
  refine lw_1 (fun _ => rfl) ?_
  refine lw_1 (fun _ => rfl) ?_
  refine lw_1 (fun _ => rfl) ?_
  refine lw_ld hx1 hL1 2 rfl (by omega) h31 ?_
  refine lw_1 (fun _ => rfl) ?_
  refine lw_1 (fun _ => rfl) ?_
  refine lw_1 (fun _ => rfl) ?_
  refine lw_1 (fun _ => rfl) ?_
  refine lw_ld hx1 hL1 3 rfl (by omega) h31 ?_
  refine lw_1 (fun _ => rfl) ?_
  refine lw_1 (fun _ => rfl) ?_
  refine lw_1 (fun _ => rfl) ?_
  refine lw_ld hx1 hL1 4 rfl (by omega) h31 ?_
  refine lw_1 (fun _ => rfl) ?_
  refine lw_1 (fun _ => rfl) ?_
  refine lw_1 (fun _ => rfl) ?_
  refine lw_1 (fun _ => rfl) ?_
  refine lw_cr (q := (8, 0)) rfl rfl (Nat.le_of_ble_eq_true rfl) ?_
  refine mc_account (d := 18) hM1 hJ.2.2.1.1.1.1.1 fun σ2 v2 hM2 hv2 => ⟨_, hv2, ?_⟩
  refine lw_icmp ?_
  exact k63 σ2 ⟨_, JJ_end hc1 hX1 hM2 hx1 (V_mono (by omega) (V_account hJ.2.2.1 _ _)), Nat.le_trans (Nat.le_of_eq (now_account ..)) (by omega)⟩
theorem lc_47 {L n i : Nat} {xs : Nat → Int32} {A : w_A} {σ : z_St} (h31 : L ≤ 704) (hi : i + 10 < L) (hn : n + 2000000 < 2147483648) (hJ : z_JJ L n xs A σ) (hN : vN A 5 0 + 2000 ≤ 200000) {Q : z_St → Option z_V → Prop} (k63 : ∀ σ', z_st1c L n xs A σ' → wp (E xP248 (zD 20) 63 (z_LS i) [] σ') Q) : wp (E xP248 (zD 20) 47 (z_LS i) [] σ) Q := by
  refine lw_eq ?_
  show wp (z_run xB248_47.1 xB248_47.2 _ _ _ _ _) Q
  unfold xB248_47
  dsimp only
  refine lw_1 (fun _ => rfl) ?_
  refine lw_ld hJ.2.2.2.2 hJ.2.2.2.1.1 1 rfl (by omega) h31 ?_
  refine lw_1 (fun _ => rfl) ?_
  refine lw_1 (fun _ => rfl) ?_
  refine lw_1 (fun _ => rfl) ?_
  refine lw_ld hJ.2.2.2.2 hJ.2.2.2.1.1 2 rfl (by omega) h31 ?_
  refine lw_1 (fun _ => rfl) ?_
  refine lw_1 (fun _ => rfl) ?_
  refine lw_1 (fun _ => rfl) ?_
  refine lw_1 (fun _ => rfl) ?_
  refine lw_ld hJ.2.2.2.2 hJ.2.2.2.1.1 3 rfl (by omega) h31 ?_
  refine lw_cr (q := (0, 0)) rfl rfl (Nat.le_of_ble_eq_true rfl) ?_
  refine xc_balance (d := 17) hJ.1 hJ.2.2.1.1.1.1.1.1.2.1 fun σ1 v1 hX1 hv1 => ⟨_, hv1, ?_⟩
  have hc1 := hJ.2.2.2.1
  obtain ⟨hM1, hx1, hL1⟩ := JJ_mid hJ rfl hc1 hX1
  refine lw_1 (fun _ => rfl) ?_
  refine lw_ld hx1 hL1 1 rfl (by omega) h31 ?_
  refine lw_1 (fun _ => rfl) ?_
  refine lw_1 (fun _ => rfl) ?_
  refine lw_1 (fun _ => rfl) ?_
  refine lw_ld hx1 hL1 2 rfl (by omega) h31 ?_
  refine lw_1 (fun _ => rfl) ?_
  refine lw_1 (fun _ => rfl) ?_
  refine lw_1 (fun _ => rfl) ?_
  refine lw_1 (fun _ => rfl) ?_
  refine lw_ld hx1 hL1 3 rfl (by omega) h31 ?_
  refine lw_cr (q := (8, 0)) rfl rfl (Nat.le_of_ble_eq_true rfl) ?_
  refine mc_balance (d := 18) hM1 hJ.2.2.1.1.1.1.1.1.2.1 fun σ2 v2 hM2 hv2 => ⟨_, hv2, ?_⟩
  refine lw_1 (fun _ => rfl) ?_
  refine lw_if0 (fun _ => ?_) (fun h => absurd ((lg_eq _ _).mpr rfl) h)
  exact k63 σ2 ⟨A, JJ_end hc1 hX1 hM2 hx1 (V_mono (by omega) hJ.2.2.1), by omega⟩
theorem lc_49 {L n i : Nat} {xs : Nat → Int32} {A : w_A} {σ : z_St} (h31 : L ≤ 704) (hi : i + 10 < L) (hn : n + 2000000 < 2147483648) (hJ : z_JJ L n xs A σ) (hN : vN A 5 0 + 2000 ≤ 200000) {Q : z_St → Option z_V → Prop} (k63 : ∀ σ', z_st1c L n xs A σ' → wp (E xP248 (zD 20) 63 (z_LS i) [] σ') Q) : wp (E xP248 (zD 20) 49 (z_LS i) [] σ) Q := by
  refine lw_eq ?_
  show wp (z_run xB248_49.1 xB248_49.2 _ _ _ _ _) Q
  unfold xB248_49
  dsimp only
  refine lw_1 (fun _ => rfl) ?_
  refine lw_cr (q := (0, 0)) rfl rfl (Nat.le_of_ble_eq_true rfl) ?_
  refine xc_sessions (d := 19) hJ.1  fun σ1 v1 hX1 hv1 => ⟨_, hv1, ?_⟩
  have hc1 := hJ.2.2.2.1
  obtain ⟨hM1, hx1, hL1⟩ := JJ_mid hJ rfl hc1 hX1
  refine lw_1 (fun _ => rfl) ?_
  refine lw_cr (q := (8, 0)) rfl rfl (Nat.le_of_ble_eq_true rfl) ?_
  refine mc_sessions (d := 19) hM1  fun σ2 v2 hM2 hv2 => ⟨_, hv2, ?_⟩
  refine lw_icmp ?_
  exact k63 σ2 ⟨A, JJ_end hc1 hX1 hM2 hx1 (V_mono (by omega) hJ.2.2.1), by omega⟩
theorem lc_51 {L n i : Nat} {xs : Nat → Int32} {A : w_A} {σ : z_St} (h31 : L ≤ 704) (hi : i + 10 < L) (hn : n + 2000000 < 2147483648) (hJ : z_JJ L n xs A σ) (hN : vN A 5 0 + 2000 ≤ 200000) {Q : z_St → Option z_V → Prop} (k63 : ∀ σ', z_st1c L n xs A σ' → wp (E xP248 (zD 20) 63 (z_LS i) [] σ') Q) : wp (E xP248 (zD 20) 51 (z_LS i) [] σ) Q := by
  refine lw_eq ?_
  show wp (z_run xB248_51.1 xB248_51.2 _ _ _ _ _) Q
  unfold xB248_51
  dsimp only
  refine lw_1 (fun _ => rfl) ?_
  refine lw_ld hJ.2.2.2.2 hJ.2.2.2.1.1 1 rfl (by omega) h31 ?_
  refine lw_ld hJ.2.2.2.2 hJ.2.2.2.1.1 2 rfl (by omega) h31 ?_
  refine lw_cr (q := (0, 0)) rfl rfl (Nat.le_of_ble_eq_true rfl) ?_
  refine xc_session (d := 18) hJ.1 hJ.2.2.1.1.1.1.1.1.2.2.1 fun σ1 v1 hX1 hv1 => ⟨_, hv1, ?_⟩
  have hc1 := hJ.2.2.2.1
  obtain ⟨hM1, hx1, hL1⟩ := JJ_mid hJ rfl hc1 hX1
  refine lw_1 (fun _ => rfl) ?_
  refine lw_ld hx1 hL1 1 rfl (by omega) h31 ?_
  refine lw_ld hx1 hL1 2 rfl (by omega) h31 ?_
  refine lw_cr (q := (8, 0)) rfl rfl (Nat.le_of_ble_eq_true rfl) ?_
  refine mc_session (d := 19) hM1 hJ.2.2.1.1.1.1.1.1.2.2.1 fun σ2 v2 hM2 hv2 => ⟨_, hv2, ?_⟩
  refine lw_icmp ?_
  exact k63 σ2 ⟨A, JJ_end hc1 hX1 hM2 hx1 (V_mono (by omega) hJ.2.2.1), by omega⟩
theorem lc_53 {L n i : Nat} {xs : Nat → Int32} {A : w_A} {σ : z_St} (h31 : L ≤ 704) (hi : i + 10 < L) (hn : n + 2000000 < 2147483648) (hJ : z_JJ L n xs A σ) (hN : vN A 5 0 + 2000 ≤ 200000) {Q : z_St → Option z_V → Prop} (k63 : ∀ σ', z_st1c L n xs A σ' → wp (E xP248 (zD 20) 63 (z_LS i) [] σ') Q) : wp (E xP248 (zD 20) 53 (z_LS i) [] σ) Q := by
  refine lw_eq ?_
  show wp (z_run xB248_53.1 xB248_53.2 _ _ _ _ _) Q
  unfold xB248_53
  dsimp only
  refine lw_1 (fun _ => rfl) ?_
  refine lw_ld hJ.2.2.2.2 hJ.2.2.2.1.1 1 rfl (by omega) h31 ?_
  refine lw_cr (q := (0, 0)) rfl rfl (Nat.le_of_ble_eq_true rfl) ?_
  refine xc_granted (d := 18) hJ.1 hJ.2.2.1.1.1.1.1.1.2.2.1 fun σ1 v1 hX1 hv1 => ⟨_, hv1, ?_⟩
  have hc1 := hJ.2.2.2.1
  obtain ⟨hM1, hx1, hL1⟩ := JJ_mid hJ rfl hc1 hX1
  refine lw_1 (fun _ => rfl) ?_
  refine lw_ld hx1 hL1 1 rfl (by omega) h31 ?_
  refine lw_cr (q := (8, 0)) rfl rfl (Nat.le_of_ble_eq_true rfl) ?_
  refine mc_granted (d := 19) hM1 hJ.2.2.1.1.1.1.1.1.2.2.1 fun σ2 v2 hM2 hv2 => ⟨_, hv2, ?_⟩
  refine lw_1 (fun _ => rfl) ?_
  refine lw_if0 (fun _ => ?_) (fun h => absurd ((lg_eq _ _).mpr rfl) h)
  exact k63 σ2 ⟨A, JJ_end hc1 hX1 hM2 hx1 (V_mono (by omega) hJ.2.2.1), by omega⟩
theorem lc_55 {L n i : Nat} {xs : Nat → Int32} {A : w_A} {σ : z_St} (h31 : L ≤ 704) (hi : i + 10 < L) (hn : n + 2000000 < 2147483648) (hJ : z_JJ L n xs A σ) (hN : vN A 5 0 + 2000 ≤ 200000) {Q : z_St → Option z_V → Prop} (k63 : ∀ σ', z_st1c L n xs A σ' → wp (E xP248 (zD 20) 63 (z_LS i) [] σ') Q) : wp (E xP248 (zD 20) 55 (z_LS i) [] σ) Q := by
  refine lw_eq ?_
  show wp (z_run xB248_55.1 xB248_55.2 _ _ _ _ _) Q
  unfold xB248_55
  dsimp only
  refine lw_1 (fun _ => rfl) ?_
  refine lw_ld hJ.2.2.2.2 hJ.2.2.2.1.1 1 rfl (by omega) h31 ?_
  refine lw_cr (q := (0, 0)) rfl rfl (Nat.le_of_ble_eq_true rfl) ?_
  refine xc_ask (d := 14) hJ.1 hJ.2.2.1.1.1.1 hJ.2.2.1.1.2.2.1 fun σ1 v1 hX1 hv1 => ⟨_, hv1, ?_⟩
  have hc1 := ct_X hX1 hJ.2.2.2.1 (cnt_ask _ _)
  obtain ⟨hM1, hx1, hL1⟩ := JJ_mid hJ rfl hc1 hX1
  refine lw_1 (fun _ => rfl) ?_
  refine lw_ld hx1 hL1 1 rfl (by omega) h31 ?_
  refine lw_cr (q := (8, 0)) rfl rfl (Nat.le_of_ble_eq_true rfl) ?_
  refine mc_ask (d := 14) hM1 hJ.2.2.1.1.1.1 hJ.2.2.1.1.2.2.1 fun σ2 v2 hM2 hv2 => ⟨_, hv2, ?_⟩
  refine lw_icmp ?_
  exact k63 σ2 ⟨_, JJ_end hc1 hX1 hM2 hx1 (V_mono (by omega) (V_ask hJ.2.2.1 (by omega) _)), Nat.le_trans (Nat.le_of_eq (now_ask ..)) (by omega)⟩
theorem lc_57 {L n i : Nat} {xs : Nat → Int32} {A : w_A} {σ : z_St} (h31 : L ≤ 704) (hi : i + 10 < L) (hn : n + 2000000 < 2147483648) (hJ : z_JJ L n xs A σ) (hN : vN A 5 0 + 2000 ≤ 200000) {Q : z_St → Option z_V → Prop} (k63 : ∀ σ', z_st1c L n xs A σ' → wp (E xP248 (zD 20) 63 (z_LS i) [] σ') Q) : wp (E xP248 (zD 20) 57 (z_LS i) [] σ) Q := by
  refine lw_eq ?_
  show wp (z_run xB248_57.1 xB248_57.2 _ _ _ _ _) Q
  unfold xB248_57
  dsimp only
  refine lw_1 (fun _ => rfl) ?_
  refine lw_ld hJ.2.2.2.2 hJ.2.2.2.1.1 1 rfl (by omega) h31 ?_
  refine lw_ld hJ.2.2.2.2 hJ.2.2.2.1.1 2 rfl (by omega) h31 ?_
  refine lw_cr (q := (0, 0)) rfl rfl (Nat.le_of_ble_eq_true rfl) ?_
  refine xc_asked (d := 18) hJ.1 hJ.2.2.1.1.1.1 (fun i _ => hJ.2.2.1.2.1.2.1 i) fun σ1 v1 hX1 hv1 => ⟨_, hv1, ?_⟩
  have hc1 := hJ.2.2.2.1
  obtain ⟨hM1, hx1, hL1⟩ := JJ_mid hJ rfl hc1 hX1
  refine lw_1 (fun _ => rfl) ?_
  refine lw_ld hx1 hL1 1 rfl (by omega) h31 ?_
  refine lw_ld hx1 hL1 2 rfl (by omega) h31 ?_
  refine lw_cr (q := (8, 0)) rfl rfl (Nat.le_of_ble_eq_true rfl) ?_
  refine mc_asked (d := 19) hM1 hJ.2.2.1.1.1.1 fun σ2 v2 hM2 hv2 => ⟨_, hv2, ?_⟩
  refine lw_icmp ?_
  exact k63 σ2 ⟨A, JJ_end hc1 hX1 hM2 hx1 (V_mono (by omega) hJ.2.2.1), by omega⟩
theorem lc_59 {L n i : Nat} {xs : Nat → Int32} {A : w_A} {σ : z_St} (h31 : L ≤ 704) (hi : i + 10 < L) (hn : n + 2000000 < 2147483648) (hJ : z_JJ L n xs A σ) (hN : vN A 5 0 + 2000 ≤ 200000) {Q : z_St → Option z_V → Prop} (k63 : ∀ σ', z_st1c L n xs A σ' → wp (E xP248 (zD 20) 63 (z_LS i) [] σ') Q) : wp (E xP248 (zD 20) 59 (z_LS i) [] σ) Q := by
  refine lw_eq ?_
  show wp (z_run xB248_59.1 xB248_59.2 _ _ _ _ _) Q
  unfold xB248_59
  dsimp only
  refine lw_1 (fun _ => rfl) ?_
  refine lw_cr (q := (0, 0)) rfl rfl (Nat.le_of_ble_eq_true rfl) ?_
  refine xc_kept (d := 17) hJ.1 hJ.2.2.1.1.1.1.1 hJ.2.2.1.1.2.2.2.2.2.1 fun σ1 v1 hX1 hv1 => ⟨_, hv1, ?_⟩
  have hc1 := ct_X hX1 hJ.2.2.2.1 (cnt_kept _)
  obtain ⟨hM1, hx1, hL1⟩ := JJ_mid hJ rfl hc1 hX1
  refine lw_1 (fun _ => rfl) ?_
  refine lw_cr (q := (8, 0)) rfl rfl (Nat.le_of_ble_eq_true rfl) ?_
  refine mc_kept (d := 16) hM1 hJ.2.2.1.1.1.1.1 hJ.2.2.1.1.2.2.2.2.2.1 fun σ2 v2 hM2 hv2 => ⟨_, hv2, ?_⟩
  refine lw_icmp ?_
  exact k63 σ2 ⟨_, JJ_end hc1 hX1 hM2 hx1 (V_mono (by omega) (V_kept hJ.2.2.1)), Nat.le_trans (Nat.le_of_eq (now_kept ..)) (by omega)⟩
theorem lc_61 {L n i : Nat} {xs : Nat → Int32} {A : w_A} {σ : z_St} (h31 : L ≤ 704) (hi : i + 10 < L) (hn : n + 2000000 < 2147483648) (hJ : z_JJ L n xs A σ) (hN : vN A 5 0 + 2000 ≤ 200000) {Q : z_St → Option z_V → Prop} (k63 : ∀ σ', z_st1c L n xs A σ' → wp (E xP248 (zD 20) 63 (z_LS i) [] σ') Q) : wp (E xP248 (zD 20) 61 (z_LS i) [] σ) Q := by
  refine lw_eq ?_
  show wp (z_run xB248_61.1 xB248_61.2 _ _ _ _ _) Q
  unfold xB248_61
  dsimp only
  refine lw_1 (fun _ => rfl) ?_
  refine lw_cr (q := (0, 0)) rfl rfl (Nat.le_of_ble_eq_true rfl) ?_
  refine xc_lost (d := 19) hJ.1  fun σ1 v1 hX1 hv1 => ⟨_, hv1, ?_⟩
  have hc1 := hJ.2.2.2.1
  obtain ⟨hM1, hx1, hL1⟩ := JJ_mid hJ rfl hc1 hX1
  refine lw_1 (fun _ => rfl) ?_
  refine lw_cr (q := (8, 0)) rfl rfl (Nat.le_of_ble_eq_true rfl) ?_
  refine mc_lost (d := 19) hM1  fun σ2 v2 hM2 hv2 => ⟨_, hv2, ?_⟩
  refine lw_icmp ?_
  exact k63 σ2 ⟨A, JJ_end hc1 hX1 hM2 hx1 (V_mono (by omega) hJ.2.2.1), by omega⟩
