/-! PART 97g (src 97g.minit.src, printed by wip/gen/g97c.py) -/
set_option maxHeartbeats 1600000
set_option maxRecDepth 100000
theorem tw_b2 {ln sl l0 s0 i x : Nat} (hb : ln ≤ l0 + i ∧ sl ≤ s0 + x) (y n i' x' : Nat) (ha : y = n) (hi : i + 1 = i' ∧ x + n = x') : ln + 1 ≤ l0 + i' ∧ sl + y ≤ s0 + x' := by omega
theorem tw_arr2 {L : Nat} {xs : Nat → Int32} {lo : Nat} {EI : Nat → Nat → Nat → Prop} {slot : Nat} {sl8 : List Nat} {f : Nat → Nat} {ln sl : Nat} {σ : z_St} (h : z_cs L xs (z_um lo) EI (z_e8 (slot :: sl8)) f ln sl σ) (hf : f 1 = 276 ∧ f 80741649 = 276) {l0 s0 i x : Nat} (hb : ln ≤ l0 + i ∧ sl ≤ s0 + x) (site n i' x' : Nat) (ha : aLen site = n) (hi : i + 1 = i' ∧ x + n = x') (h16 : ¬ site < 16 ∧ lo ≤ site ∧ 7 ≤ site / 1048576 ∧ site / 1048576 ≤ 68) (hne : ¬ site = 1 ∧ ¬ site = 80741649 ∧ ¬ site = 14) (ho : z_off site = 0) (hI : ∀ m, EI site 0 m ∨ z_mui xs site 0 m = 0) (hR : ∀ m, z_mur site 0 m = none) (hx : some (site, 0) = z_mur 8 slot 0) {os : List z_Op} {t : z_Tm} {C : z_O} {y : Int32} {j : z_J} {Q : z_St → Option z_V → Prop} (k : ∀ σ' f' ln' sl', z_cs L xs (z_um (site + 1)) EI (z_e8 sl8) f' ln' sl' σ' → f' 1 = 276 ∧ f' 80741649 = 276 → (ln' ≤ l0 + i' ∧ sl' ≤ s0 + x') → wp (z_run os t C z_L8 [] σ' j) Q) : wp (z_run (zo_ldA 0 :: zo_cI y :: zo_newA site y :: zo_pR 8 slot :: os) t C z_L8 [] σ j) Q := tw_arr h hf site h16 hne ho hI hR hx (fun σ' f' h hf => k σ' f' _ _ h hf (tw_b2 hb (aLen site) n i' x' ha hi))
theorem mc_i4 {L : Nat} {xs : Nat → Int32} {f : Nat → Nat} {ln sl l0 s0 : Nat} {σ : z_St} (h : z_cs L xs (z_um (63985553 + 1)) (z_ej 0 0 1) (z_e8 [76, 77, 78, 79, 85, 86, 87]) f ln sl σ) (hf : f 1 = 276 ∧ f 80741649 = 276) (hb : ln ≤ l0 + 55 ∧ sl ≤ s0 + 46842) {d : Nat} {Q : z_St → Option z_V → Prop} (k : ∀ σ' f' ln' sl', z_cs L xs (z_um 71303345) (z_ej 12 6 2) (z_e8 []) f' ln' sl' σ' → f' 1 = 276 ∧ f' 80741649 = 276 → ln' ≤ l0 + 100 → sl' ≤ s0 + 50000 → Q σ' none) : wp (z_run (List.drop 225 xB84_0.1) xB84_0.2 (zD d) z_L8 [] σ (E xP84 (zD d))) Q := by
  show wp (z_run [zo_ldA 0, zo_cI (12), zo_newA 65012112 12, zo_dupR, zo_cI (0), zo_cI (263), zo_astI, zo_dupR, zo_cI (1), zo_cI (264), zo_astI, zo_dupR, zo_cI (2), zo_cI (296), zo_astI, zo_dupR, zo_cI (3), zo_cI (258), zo_astI, zo_dupR, zo_cI (4), zo_cI (273), zo_astI, zo_dupR, zo_cI (5), zo_cI (416), zo_astI, zo_dupR, zo_cI (6), zo_cI (415), zo_astI, zo_dupR, zo_cI (7), zo_cI (268), zo_astI, zo_dupR, zo_cI (8), zo_cI (436), zo_astI, zo_dupR, zo_cI (9), zo_cI (443), zo_astI, zo_dupR, zo_cI (10), zo_cI (437), zo_astI, zo_dupR, zo_cI (11), zo_cI (446), zo_astI, zo_pR 8 76, zo_ldA 0, zo_cI (12), zo_newA 66060688 12, zo_pR 8 77, zo_ldA 0, zo_cI (12), zo_newA 67109264 12, zo_pR 8 78, zo_ldA 0, zo_cI (12), zo_newA 68157840 12, zo_pR 8 79, zo_ldA 0, zo_cI (5), zo_newA 69206192 5, zo_pR 8 85, zo_ldA 0, zo_cI (5), zo_newA 70254768 5, zo_pR 8 86, zo_ldA 0, zo_cI (5), zo_newA 71303344 5, zo_pR 8 87, zo_ldA 0, zo_gR 8 5, zo_cI (0), zo_cI (109), zo_astB, zo_ldA 0, zo_gR 8 5, zo_cI (1), zo_cI (46), zo_astB, zo_ldA 0, zo_gR 8 5, zo_cI (2), zo_cI (104), zo_astB, zo_ldA 0, zo_gR 8 5, zo_cI (3), zo_cI (111), zo_astB, zo_ldA 0, zo_gR 8 5, zo_cI (4), zo_cI (109), zo_astB, zo_ldA 0, zo_gR 8 5, zo_cI (5), zo_cI (101), zo_astB, zo_ldA 0, zo_cI (6), zo_pI 8 6] xB84_0.2 (zD d) z_L8 [] σ (E xP84 (zD d))) Q
  refine lw_1 (fun _ => rfl) (lw_1 (fun _ => rfl) ?_)
  have e0 : cn σ 65012112 + z_off 65012112 = 0 := by
    rw [h.2.2.2.2.2.2 65012112 (.inr (.inr (.inr (by decide)))), if_neg (by decide)]
    rfl
  have a1 := cs_A (V := z_um 65012113) (FI := z_ej 0 0 1) (FR := z_e8 [76, 77, 78, 79, 85, 86, 87]) h (a := 65012112) (n := 0) (by decide) (fun m => ej_k m) (fun m => .inr (mur_0 (by decide) 0 m)) (fun _ _ _ q => q) (fun _ _ _ q => q) (fun b hb => by unfold z_um at hb ⊢; omega)
  have hfk : va_up f 65012112 (f 65012112 + 1) 1 = 276 ∧ va_up f 65012112 (f 65012112 + 1) 80741649 = 276 := hf
  generalize va_up f 65012112 (f 65012112 + 1) = fk at a1 hfk
  have hbk := tw_b2 hb (aLen 65012112) 12 56 46854 alen_65012112 ⟨rfl, rfl⟩
  show wp (gd ((12 : Int32) = 12) (z_run _ _ (zD d) z_L8 (.inr (.inr (some (65012112, cn σ 65012112 + z_off 65012112))) :: .inr (.inr (some (8, 0))) :: []) (nA σ 65012112 (cn σ 65012112 + z_off 65012112)) (E xP84 (zD d)))) Q
  refine wp_gd rfl ?_
  rw [e0]
  clear h e0
  generalize nA σ 65012112 0 = σk at a1 ⊢
  refine tw_key (FI := z_ej 1 0 1) a1 aty_65012112 0 rfl (by rw [alen_65012112]; decide) (by rw [alen_65012112]; decide) rfl (fun c d m q hn => ej_kk q hn) fun σk0 k0 => ?_
  clear a1
  refine tw_key (FI := z_ej 2 0 1) k0 aty_65012112 1 rfl (by rw [alen_65012112]; decide) (by rw [alen_65012112]; decide) rfl (fun c d m q hn => ej_kk q hn) fun σk1 k1 => ?_
  clear k0
  refine tw_key (FI := z_ej 3 0 1) k1 aty_65012112 2 rfl (by rw [alen_65012112]; decide) (by rw [alen_65012112]; decide) rfl (fun c d m q hn => ej_kk q hn) fun σk2 k2 => ?_
  clear k1
  refine tw_key (FI := z_ej 4 0 1) k2 aty_65012112 3 rfl (by rw [alen_65012112]; decide) (by rw [alen_65012112]; decide) rfl (fun c d m q hn => ej_kk q hn) fun σk3 k3 => ?_
  clear k2
  refine tw_key (FI := z_ej 5 0 1) k3 aty_65012112 4 rfl (by rw [alen_65012112]; decide) (by rw [alen_65012112]; decide) rfl (fun c d m q hn => ej_kk q hn) fun σk4 k4 => ?_
  clear k3
  refine tw_key (FI := z_ej 6 0 1) k4 aty_65012112 5 rfl (by rw [alen_65012112]; decide) (by rw [alen_65012112]; decide) rfl (fun c d m q hn => ej_kk q hn) fun σk5 k5 => ?_
  clear k4
  refine tw_key (FI := z_ej 7 0 1) k5 aty_65012112 6 rfl (by rw [alen_65012112]; decide) (by rw [alen_65012112]; decide) rfl (fun c d m q hn => ej_kk q hn) fun σk6 k6 => ?_
  clear k5
  refine tw_key (FI := z_ej 8 0 1) k6 aty_65012112 7 rfl (by rw [alen_65012112]; decide) (by rw [alen_65012112]; decide) rfl (fun c d m q hn => ej_kk q hn) fun σk7 k7 => ?_
  clear k6
  refine tw_key (FI := z_ej 9 0 1) k7 aty_65012112 8 rfl (by rw [alen_65012112]; decide) (by rw [alen_65012112]; decide) rfl (fun c d m q hn => ej_kk q hn) fun σk8 k8 => ?_
  clear k7
  refine tw_key (FI := z_ej 10 0 1) k8 aty_65012112 9 rfl (by rw [alen_65012112]; decide) (by rw [alen_65012112]; decide) rfl (fun c d m q hn => ej_kk q hn) fun σk9 k9 => ?_
  clear k8
  refine tw_key (FI := z_ej 11 0 1) k9 aty_65012112 10 rfl (by rw [alen_65012112]; decide) (by rw [alen_65012112]; decide) rfl (fun c d m q hn => ej_kk q hn) fun σk10 k10 => ?_
  clear k9
  refine tw_key (FI := z_ej 12 0 1) k10 aty_65012112 11 rfl (by rw [alen_65012112]; decide) (by rw [alen_65012112]; decide) rfl (fun c d m q hn => ej_kk q hn) fun σk11 k11 => ?_
  clear k10
  have b1 := cs_R (FR := z_e8 [77, 78, 79, 85, 86, 87]) k11 (a := 8) (b := 76) (n := 0) (x := some (65012112, 0)) rfl (fun c d m q hn => by
    obtain ⟨q1, q2, q3⟩ := q
    refine ⟨q1, q2, ?_⟩
    rcases List.mem_cons.mp q3 with g | g
    · exact absurd ⟨q1, g, q2⟩ hn
    · exact g)
  show wp (gd ((8 : Nat) = 8) (z_run _ _ (zD d) z_L8 [] (wR σk11 8 76 0 (some (65012112, 0))) (E xP84 (zD d)))) Q
  refine wp_gd rfl ?_
  clear k11
  generalize wR σk11 8 76 0 (some (65012112, 0)) = σb at b1 ⊢
  refine tw_arr2 b1 hfk hbk 66060688 12 57 46866 alen_66060688 ⟨rfl, rfl⟩ (by decide) (by decide) rfl (fun m => mj_I (by decide) m) (fun m => mur_0 (by decide) 0 m) rfl fun σ2 f2 _ _ h2 hf2 hb2 => ?_
  clear b1 hfk hbk
  refine tw_arr2 h2 hf2 hb2 67109264 12 58 46878 alen_67109264 ⟨rfl, rfl⟩ (by decide) (by decide) rfl (fun m => mj_I (by decide) m) (fun m => mur_0 (by decide) 0 m) rfl fun σ3 f3 _ _ h3 hf3 hb3 => ?_
  clear h2 hf2 hb2
  refine tw_arr2 h3 hf3 hb3 68157840 12 59 46890 alen_68157840 ⟨rfl, rfl⟩ (by decide) (by decide) rfl (fun m => mj_I (by decide) m) (fun m => mur_0 (by decide) 0 m) rfl fun σ4 f4 _ _ h4 hf4 hb4 => ?_
  clear h3 hf3 hb3
  refine tw_arr2 h4 hf4 hb4 69206192 5 60 46895 alen_69206192 ⟨rfl, rfl⟩ (by decide) (by decide) rfl (fun m => mj_I (by decide) m) (fun m => mur_0 (by decide) 0 m) rfl fun σ5 f5 _ _ h5 hf5 hb5 => ?_
  clear h4 hf4 hb4
  refine tw_arr2 h5 hf5 hb5 70254768 5 61 46900 alen_70254768 ⟨rfl, rfl⟩ (by decide) (by decide) rfl (fun m => mj_I (by decide) m) (fun m => mur_0 (by decide) 0 m) rfl fun σ6 f6 _ _ h6 hf6 hb6 => ?_
  clear h5 hf5 hb5
  refine tw_arr2 h6 hf6 hb6 71303344 5 62 46905 alen_71303344 ⟨rfl, rfl⟩ (by decide) (by decide) rfl (fun m => mj_I (by decide) m) (fun m => mur_0 (by decide) 0 m) rfl fun σ7 f7 _ _ h7 hf7 hb7 => ?_
  clear h6 hf6 hb6
  refine tw_oct (FI := z_ej 12 1 1) h7 (fun g => by unfold z_e8 at g; exact absurd g.2.2 (by decide)) 0 rfl (by decide) ((by decide : nb 109 = 109).trans rfl) (fun c d m q hn => ej_hh q hn) fun σ8 h8 => ?_
  clear h7
  refine tw_oct (FI := z_ej 12 2 1) h8 (fun g => by unfold z_e8 at g; exact absurd g.2.2 (by decide)) 1 rfl (by decide) ((by decide : nb 46 = 46).trans rfl) (fun c d m q hn => ej_hh q hn) fun σ9 h9 => ?_
  clear h8
  refine tw_oct (FI := z_ej 12 3 1) h9 (fun g => by unfold z_e8 at g; exact absurd g.2.2 (by decide)) 2 rfl (by decide) ((by decide : nb 104 = 104).trans rfl) (fun c d m q hn => ej_hh q hn) fun σ10 h10 => ?_
  clear h9
  refine tw_oct (FI := z_ej 12 4 1) h10 (fun g => by unfold z_e8 at g; exact absurd g.2.2 (by decide)) 3 rfl (by decide) ((by decide : nb 111 = 111).trans rfl) (fun c d m q hn => ej_hh q hn) fun σ11 h11 => ?_
  clear h10
  refine tw_oct (FI := z_ej 12 5 1) h11 (fun g => by unfold z_e8 at g; exact absurd g.2.2 (by decide)) 4 rfl (by decide) ((by decide : nb 109 = 109).trans rfl) (fun c d m q hn => ej_hh q hn) fun σ12 h12 => ?_
  clear h11
  refine tw_oct (FI := z_ej 12 6 1) h12 (fun g => by unfold z_e8 at g; exact absurd g.2.2 (by decide)) 5 rfl (by decide) ((by decide : nb 101 = 101).trans rfl) (fun c d m q hn => ej_hh q hn) fun σ13 h13 => ?_
  clear h12
  refine tw_int (FI := z_ej 12 6 2) h13 (slot := 6) rfl (fun c d m q hn => ej_oo (by decide) q hn) fun σ14 h14 => ?_
  clear h13
  show wp (some (σ14, none)) Q
  exact wp_ret (k σ14 f7 _ _ h14 hf7 (Nat.le_trans hb7.1 (Nat.add_le_add_left (by decide) _)) (Nat.le_trans hb7.2 (Nat.add_le_add_left (by decide) _)))
theorem mc_i3 {L : Nat} {xs : Nat → Int32} {f : Nat → Nat} {ln sl l0 s0 : Nat} {σ : z_St} (h : z_cs L xs (z_um (49367057 + 1)) (z_ej 0 0 1) (z_e8 [51, 52, 53, 54, 55, 56, 57, 58, 60, 61, 62, 63, 64, 65, 76, 77, 78, 79, 85, 86, 87]) f ln sl σ) (hf : f 1 = 276 ∧ f 80741649 = 276) (hb : ln ≤ l0 + 41 ∧ sl ≤ s0 + 28498) {d : Nat} {Q : z_St → Option z_V → Prop} (k : ∀ σ' f' ln' sl', z_cs L xs (z_um 71303345) (z_ej 12 6 2) (z_e8 []) f' ln' sl' σ' → f' 1 = 276 ∧ f' 80741649 = 276 → ln' ≤ l0 + 100 → sl' ≤ s0 + 50000 → Q σ' none) : wp (z_run (List.drop 169 xB84_0.1) xB84_0.2 (zD d) z_L8 [] σ (E xP84 (zD d))) Q := by
  show wp (z_run [zo_ldA 0, zo_cI (2624), zo_newA 50415633 2624, zo_pR 8 51, zo_ldA 0, zo_cI (2624), zo_newA 51464209 2624, zo_pR 8 52, zo_ldA 0, zo_cI (64), zo_newA 52430867 64, zo_pR 8 53, zo_ldA 0, zo_cI (64), zo_newA 53479440 64, zo_pR 8 54, zo_ldA 0, zo_cI (64), zo_newA 54528016 64, zo_pR 8 55, zo_ldA 0, zo_cI (64), zo_newA 55576592 64, zo_pR 8 56, zo_ldA 0, zo_cI (64), zo_newA 56625168 64, zo_pR 8 57, zo_ldA 0, zo_cI (64), zo_newA 57673744 64, zo_pR 8 58, zo_ldA 0, zo_cI (10560), zo_newA 59058193 10560, zo_pR 8 60, zo_ldA 0, zo_cI (33), zo_newA 59769904 33, zo_pR 8 61, zo_ldA 0, zo_cI (1353), zo_newA 60860721 1353, zo_pR 8 62, zo_ldA 0, zo_cI (33), zo_newA 61867056 33, zo_pR 8 63, zo_ldA 0, zo_cI (33), zo_newA 62915632 33, zo_pR 8 64, zo_ldA 0, zo_cI (700), zo_newA 63985553 700, zo_pR 8 65, zo_ldA 0, zo_cI (12), zo_newA 65012112 12, zo_dupR, zo_cI (0), zo_cI (263), zo_astI, zo_dupR, zo_cI (1), zo_cI (264), zo_astI, zo_dupR, zo_cI (2), zo_cI (296), zo_astI, zo_dupR, zo_cI (3), zo_cI (258), zo_astI, zo_dupR, zo_cI (4), zo_cI (273), zo_astI, zo_dupR, zo_cI (5), zo_cI (416), zo_astI, zo_dupR, zo_cI (6), zo_cI (415), zo_astI, zo_dupR, zo_cI (7), zo_cI (268), zo_astI, zo_dupR, zo_cI (8), zo_cI (436), zo_astI, zo_dupR, zo_cI (9), zo_cI (443), zo_astI, zo_dupR, zo_cI (10), zo_cI (437), zo_astI, zo_dupR, zo_cI (11), zo_cI (446), zo_astI, zo_pR 8 76, zo_ldA 0, zo_cI (12), zo_newA 66060688 12, zo_pR 8 77, zo_ldA 0, zo_cI (12), zo_newA 67109264 12, zo_pR 8 78, zo_ldA 0, zo_cI (12), zo_newA 68157840 12, zo_pR 8 79, zo_ldA 0, zo_cI (5), zo_newA 69206192 5, zo_pR 8 85, zo_ldA 0, zo_cI (5), zo_newA 70254768 5, zo_pR 8 86, zo_ldA 0, zo_cI (5), zo_newA 71303344 5, zo_pR 8 87, zo_ldA 0, zo_gR 8 5, zo_cI (0), zo_cI (109), zo_astB, zo_ldA 0, zo_gR 8 5, zo_cI (1), zo_cI (46), zo_astB, zo_ldA 0, zo_gR 8 5, zo_cI (2), zo_cI (104), zo_astB, zo_ldA 0, zo_gR 8 5, zo_cI (3), zo_cI (111), zo_astB, zo_ldA 0, zo_gR 8 5, zo_cI (4), zo_cI (109), zo_astB, zo_ldA 0, zo_gR 8 5, zo_cI (5), zo_cI (101), zo_astB, zo_ldA 0, zo_cI (6), zo_pI 8 6] xB84_0.2 (zD d) z_L8 [] σ (E xP84 (zD d))) Q
  refine tw_arr2 h hf hb 50415633 2624 42 31122 alen_50415633 ⟨rfl, rfl⟩ (by decide) (by decide) rfl (fun m => mj_I (by decide) m) (fun m => mur_0 (by decide) 0 m) rfl fun σ1 f1 _ _ h1 hf1 hb1 => ?_
  clear h hf hb
  refine tw_arr2 h1 hf1 hb1 51464209 2624 43 33746 alen_51464209 ⟨rfl, rfl⟩ (by decide) (by decide) rfl (fun m => mj_I (by decide) m) (fun m => mur_0 (by decide) 0 m) rfl fun σ2 f2 _ _ h2 hf2 hb2 => ?_
  clear h1 hf1 hb1
  refine tw_arr2 h2 hf2 hb2 52430867 64 44 33810 alen_52430867 ⟨rfl, rfl⟩ (by decide) (by decide) rfl (fun m => mj_I (by decide) m) (fun m => mur_0 (by decide) 0 m) rfl fun σ3 f3 _ _ h3 hf3 hb3 => ?_
  clear h2 hf2 hb2
  refine tw_arr2 h3 hf3 hb3 53479440 64 45 33874 alen_53479440 ⟨rfl, rfl⟩ (by decide) (by decide) rfl (fun m => mj_I (by decide) m) (fun m => mur_0 (by decide) 0 m) rfl fun σ4 f4 _ _ h4 hf4 hb4 => ?_
  clear h3 hf3 hb3
  refine tw_arr2 h4 hf4 hb4 54528016 64 46 33938 alen_54528016 ⟨rfl, rfl⟩ (by decide) (by decide) rfl (fun m => mj_I (by decide) m) (fun m => mur_0 (by decide) 0 m) rfl fun σ5 f5 _ _ h5 hf5 hb5 => ?_
  clear h4 hf4 hb4
  refine tw_arr2 h5 hf5 hb5 55576592 64 47 34002 alen_55576592 ⟨rfl, rfl⟩ (by decide) (by decide) rfl (fun m => mj_I (by decide) m) (fun m => mur_0 (by decide) 0 m) rfl fun σ6 f6 _ _ h6 hf6 hb6 => ?_
  clear h5 hf5 hb5
  refine tw_arr2 h6 hf6 hb6 56625168 64 48 34066 alen_56625168 ⟨rfl, rfl⟩ (by decide) (by decide) rfl (fun m => mj_I (by decide) m) (fun m => mur_0 (by decide) 0 m) rfl fun σ7 f7 _ _ h7 hf7 hb7 => ?_
  clear h6 hf6 hb6
  refine tw_arr2 h7 hf7 hb7 57673744 64 49 34130 alen_57673744 ⟨rfl, rfl⟩ (by decide) (by decide) rfl (fun m => mj_I (by decide) m) (fun m => mur_0 (by decide) 0 m) rfl fun σ8 f8 _ _ h8 hf8 hb8 => ?_
  clear h7 hf7 hb7
  refine tw_arr2 h8 hf8 hb8 59058193 10560 50 44690 alen_59058193 ⟨rfl, rfl⟩ (by decide) (by decide) rfl (fun m => mj_I (by decide) m) (fun m => mur_0 (by decide) 0 m) rfl fun σ9 f9 _ _ h9 hf9 hb9 => ?_
  clear h8 hf8 hb8
  refine tw_arr2 h9 hf9 hb9 59769904 33 51 44723 alen_59769904 ⟨rfl, rfl⟩ (by decide) (by decide) rfl (fun m => mj_I (by decide) m) (fun m => mur_0 (by decide) 0 m) rfl fun σ10 f10 _ _ h10 hf10 hb10 => ?_
  clear h9 hf9 hb9
  refine tw_arr2 h10 hf10 hb10 60860721 1353 52 46076 alen_60860721 ⟨rfl, rfl⟩ (by decide) (by decide) rfl (fun m => mj_I (by decide) m) (fun m => mur_0 (by decide) 0 m) rfl fun σ11 f11 _ _ h11 hf11 hb11 => ?_
  clear h10 hf10 hb10
  refine tw_arr2 h11 hf11 hb11 61867056 33 53 46109 alen_61867056 ⟨rfl, rfl⟩ (by decide) (by decide) rfl (fun m => mj_I (by decide) m) (fun m => mur_0 (by decide) 0 m) rfl fun σ12 f12 _ _ h12 hf12 hb12 => ?_
  clear h11 hf11 hb11
  refine tw_arr2 h12 hf12 hb12 62915632 33 54 46142 alen_62915632 ⟨rfl, rfl⟩ (by decide) (by decide) rfl (fun m => mj_I (by decide) m) (fun m => mur_0 (by decide) 0 m) rfl fun σ13 f13 _ _ h13 hf13 hb13 => ?_
  clear h12 hf12 hb12
  refine tw_arr2 h13 hf13 hb13 63985553 700 55 46842 alen_63985553 ⟨rfl, rfl⟩ (by decide) (by decide) rfl (fun m => mj_I (by decide) m) (fun m => mur_0 (by decide) 0 m) rfl fun σ14 f14 _ _ h14 hf14 hb14 => ?_
  clear h13 hf13 hb13
  exact mc_i4 h14 hf14 hb14 k
theorem mc_i2 {L : Nat} {xs : Nat → Int32} {f : Nat → Nat} {ln sl l0 s0 : Nat} {σ : z_St} (h : z_cs L xs (z_um (35651888 + 1)) (z_ej 0 0 0) (z_e8 [36, 37, 38, 39, 41, 42, 43, 44, 45, 46, 47, 48, 50, 51, 52, 53, 54, 55, 56, 57, 58, 60, 61, 62, 63, 64, 65, 76, 77, 78, 79, 85, 86, 87]) f ln sl σ) (hf : f 1 = 276 ∧ f 80741649 = 276) (hb : ln ≤ l0 + 28 ∧ sl ≤ s0 + 23762) {d : Nat} {Q : z_St → Option z_V → Prop} (k : ∀ σ' f' ln' sl', z_cs L xs (z_um 71303345) (z_ej 12 6 2) (z_e8 []) f' ln' sl' σ' → f' 1 = 276 ∧ f' 80741649 = 276 → ln' ≤ l0 + 100 → sl' ≤ s0 + 50000 → Q σ' none) : wp (z_run (List.drop 114 xB84_0.1) xB84_0.2 (zD d) z_L8 [] σ (E xP84 (zD d))) Q := by
  show wp (z_run [zo_ldA 0, zo_cI (1), zo_pI 8 34, zo_ldA 0, zo_cI (16), zo_newA 36700691 16, zo_pR 8 36, zo_ldA 0, zo_cI (16), zo_newA 37749267 16, zo_pR 8 37, zo_ldA 0, zo_cI (16), zo_newA 38797843 16, zo_pR 8 38, zo_ldA 0, zo_cI (16), zo_newA 39846419 16, zo_pR 8 39, zo_ldA 0, zo_cI (656), zo_newA 40915473 656, zo_pR 8 41, zo_ldA 0, zo_cI (656), zo_newA 41964049 656, zo_pR 8 42, zo_ldA 0, zo_cI (656), zo_newA 43012625 656, zo_pR 8 43, zo_ldA 0, zo_cI (16), zo_newA 44040720 16, zo_pR 8 44, zo_ldA 0, zo_cI (16), zo_newA 45089299 16, zo_pR 8 45, zo_ldA 0, zo_cI (16), zo_newA 46137875 16, zo_pR 8 46, zo_ldA 0, zo_cI (16), zo_newA 47186448 16, zo_pR 8 47, zo_ldA 0, zo_cI (16), zo_newA 48235024 16, zo_pR 8 48, zo_ldA 0, zo_cI (2624), zo_newA 49367057 2624, zo_pR 8 50, zo_ldA 0, zo_cI (2624), zo_newA 50415633 2624, zo_pR 8 51, zo_ldA 0, zo_cI (2624), zo_newA 51464209 2624, zo_pR 8 52, zo_ldA 0, zo_cI (64), zo_newA 52430867 64, zo_pR 8 53, zo_ldA 0, zo_cI (64), zo_newA 53479440 64, zo_pR 8 54, zo_ldA 0, zo_cI (64), zo_newA 54528016 64, zo_pR 8 55, zo_ldA 0, zo_cI (64), zo_newA 55576592 64, zo_pR 8 56, zo_ldA 0, zo_cI (64), zo_newA 56625168 64, zo_pR 8 57, zo_ldA 0, zo_cI (64), zo_newA 57673744 64, zo_pR 8 58, zo_ldA 0, zo_cI (10560), zo_newA 59058193 10560, zo_pR 8 60, zo_ldA 0, zo_cI (33), zo_newA 59769904 33, zo_pR 8 61, zo_ldA 0, zo_cI (1353), zo_newA 60860721 1353, zo_pR 8 62, zo_ldA 0, zo_cI (33), zo_newA 61867056 33, zo_pR 8 63, zo_ldA 0, zo_cI (33), zo_newA 62915632 33, zo_pR 8 64, zo_ldA 0, zo_cI (700), zo_newA 63985553 700, zo_pR 8 65, zo_ldA 0, zo_cI (12), zo_newA 65012112 12, zo_dupR, zo_cI (0), zo_cI (263), zo_astI, zo_dupR, zo_cI (1), zo_cI (264), zo_astI, zo_dupR, zo_cI (2), zo_cI (296), zo_astI, zo_dupR, zo_cI (3), zo_cI (258), zo_astI, zo_dupR, zo_cI (4), zo_cI (273), zo_astI, zo_dupR, zo_cI (5), zo_cI (416), zo_astI, zo_dupR, zo_cI (6), zo_cI (415), zo_astI, zo_dupR, zo_cI (7), zo_cI (268), zo_astI, zo_dupR, zo_cI (8), zo_cI (436), zo_astI, zo_dupR, zo_cI (9), zo_cI (443), zo_astI, zo_dupR, zo_cI (10), zo_cI (437), zo_astI, zo_dupR, zo_cI (11), zo_cI (446), zo_astI, zo_pR 8 76, zo_ldA 0, zo_cI (12), zo_newA 66060688 12, zo_pR 8 77, zo_ldA 0, zo_cI (12), zo_newA 67109264 12, zo_pR 8 78, zo_ldA 0, zo_cI (12), zo_newA 68157840 12, zo_pR 8 79, zo_ldA 0, zo_cI (5), zo_newA 69206192 5, zo_pR 8 85, zo_ldA 0, zo_cI (5), zo_newA 70254768 5, zo_pR 8 86, zo_ldA 0, zo_cI (5), zo_newA 71303344 5, zo_pR 8 87, zo_ldA 0, zo_gR 8 5, zo_cI (0), zo_cI (109), zo_astB, zo_ldA 0, zo_gR 8 5, zo_cI (1), zo_cI (46), zo_astB, zo_ldA 0, zo_gR 8 5, zo_cI (2), zo_cI (104), zo_astB, zo_ldA 0, zo_gR 8 5, zo_cI (3), zo_cI (111), zo_astB, zo_ldA 0, zo_gR 8 5, zo_cI (4), zo_cI (109), zo_astB, zo_ldA 0, zo_gR 8 5, zo_cI (5), zo_cI (101), zo_astB, zo_ldA 0, zo_cI (6), zo_pI 8 6] xB84_0.2 (zD d) z_L8 [] σ (E xP84 (zD d))) Q
  refine tw_int (FI := z_ej 0 0 1) h (slot := 34) rfl (fun c d m q hn => ej_oo (by decide) q hn) fun σ1 h1 => ?_
  clear h
  refine tw_arr2 h1 hf hb 36700691 16 29 23778 alen_36700691 ⟨rfl, rfl⟩ (by decide) (by decide) rfl (fun m => mj_I (by decide) m) (fun m => mur_0 (by decide) 0 m) rfl fun σ2 f2 _ _ h2 hf2 hb2 => ?_
  clear h1 hf hb
  refine tw_arr2 h2 hf2 hb2 37749267 16 30 23794 alen_37749267 ⟨rfl, rfl⟩ (by decide) (by decide) rfl (fun m => mj_I (by decide) m) (fun m => mur_0 (by decide) 0 m) rfl fun σ3 f3 _ _ h3 hf3 hb3 => ?_
  clear h2 hf2 hb2
  refine tw_arr2 h3 hf3 hb3 38797843 16 31 23810 alen_38797843 ⟨rfl, rfl⟩ (by decide) (by decide) rfl (fun m => mj_I (by decide) m) (fun m => mur_0 (by decide) 0 m) rfl fun σ4 f4 _ _ h4 hf4 hb4 => ?_
  clear h3 hf3 hb3
  refine tw_arr2 h4 hf4 hb4 39846419 16 32 23826 alen_39846419 ⟨rfl, rfl⟩ (by decide) (by decide) rfl (fun m => mj_I (by decide) m) (fun m => mur_0 (by decide) 0 m) rfl fun σ5 f5 _ _ h5 hf5 hb5 => ?_
  clear h4 hf4 hb4
  refine tw_arr2 h5 hf5 hb5 40915473 656 33 24482 alen_40915473 ⟨rfl, rfl⟩ (by decide) (by decide) rfl (fun m => mj_I (by decide) m) (fun m => mur_0 (by decide) 0 m) rfl fun σ6 f6 _ _ h6 hf6 hb6 => ?_
  clear h5 hf5 hb5
  refine tw_arr2 h6 hf6 hb6 41964049 656 34 25138 alen_41964049 ⟨rfl, rfl⟩ (by decide) (by decide) rfl (fun m => mj_I (by decide) m) (fun m => mur_0 (by decide) 0 m) rfl fun σ7 f7 _ _ h7 hf7 hb7 => ?_
  clear h6 hf6 hb6
  refine tw_arr2 h7 hf7 hb7 43012625 656 35 25794 alen_43012625 ⟨rfl, rfl⟩ (by decide) (by decide) rfl (fun m => mj_I (by decide) m) (fun m => mur_0 (by decide) 0 m) rfl fun σ8 f8 _ _ h8 hf8 hb8 => ?_
  clear h7 hf7 hb7
  refine tw_arr2 h8 hf8 hb8 44040720 16 36 25810 alen_44040720 ⟨rfl, rfl⟩ (by decide) (by decide) rfl (fun m => mj_I (by decide) m) (fun m => mur_0 (by decide) 0 m) rfl fun σ9 f9 _ _ h9 hf9 hb9 => ?_
  clear h8 hf8 hb8
  refine tw_arr2 h9 hf9 hb9 45089299 16 37 25826 alen_45089299 ⟨rfl, rfl⟩ (by decide) (by decide) rfl (fun m => mj_I (by decide) m) (fun m => mur_0 (by decide) 0 m) rfl fun σ10 f10 _ _ h10 hf10 hb10 => ?_
  clear h9 hf9 hb9
  refine tw_arr2 h10 hf10 hb10 46137875 16 38 25842 alen_46137875 ⟨rfl, rfl⟩ (by decide) (by decide) rfl (fun m => mj_I (by decide) m) (fun m => mur_0 (by decide) 0 m) rfl fun σ11 f11 _ _ h11 hf11 hb11 => ?_
  clear h10 hf10 hb10
  refine tw_arr2 h11 hf11 hb11 47186448 16 39 25858 alen_47186448 ⟨rfl, rfl⟩ (by decide) (by decide) rfl (fun m => mj_I (by decide) m) (fun m => mur_0 (by decide) 0 m) rfl fun σ12 f12 _ _ h12 hf12 hb12 => ?_
  clear h11 hf11 hb11
  refine tw_arr2 h12 hf12 hb12 48235024 16 40 25874 alen_48235024 ⟨rfl, rfl⟩ (by decide) (by decide) rfl (fun m => mj_I (by decide) m) (fun m => mur_0 (by decide) 0 m) rfl fun σ13 f13 _ _ h13 hf13 hb13 => ?_
  clear h12 hf12 hb12
  refine tw_arr2 h13 hf13 hb13 49367057 2624 41 28498 alen_49367057 ⟨rfl, rfl⟩ (by decide) (by decide) rfl (fun m => mj_I (by decide) m) (fun m => mur_0 (by decide) 0 m) rfl fun σ14 f14 _ _ h14 hf14 hb14 => ?_
  clear h13 hf13 hb13
  exact mc_i3 h14 hf14 hb14 k
theorem mc_i1 {L : Nat} {xs : Nat → Int32} {f : Nat → Nat} {ln sl l0 s0 : Nat} {σ : z_St} (h : z_cs L xs (z_um (20971664 + 1)) (z_ej 0 0 0) (z_e8 [20, 21, 22, 23, 24, 25, 26, 27, 28, 29, 30, 31, 32, 33, 36, 37, 38, 39, 41, 42, 43, 44, 45, 46, 47, 48, 50, 51, 52, 53, 54, 55, 56, 57, 58, 60, 61, 62, 63, 64, 65, 76, 77, 78, 79, 85, 86, 87]) f ln sl σ) (hf : f 1 = 276 ∧ f 80741649 = 276) (hb : ln ≤ l0 + 14 ∧ sl ≤ s0 + 284) {d : Nat} {Q : z_St → Option z_V → Prop} (k : ∀ σ' f' ln' sl', z_cs L xs (z_um 71303345) (z_ej 12 6 2) (z_e8 []) f' ln' sl' σ' → f' 1 = 276 ∧ f' 80741649 = 276 → ln' ≤ l0 + 100 → sl' ≤ s0 + 50000 → Q σ' none) : wp (z_run (List.drop 58 xB84_0.1) xB84_0.2 (zD d) z_L8 [] σ (E xP84 (zD d))) Q := by
  show wp (z_run [zo_ldA 0, zo_cI (4), zo_newA 22020240 4, zo_pR 8 20, zo_ldA 0, zo_cI (4), zo_newA 23068816 4, zo_pR 8 21, zo_ldA 0, zo_cI (4), zo_newA 24117392 4, zo_pR 8 22, zo_ldA 0, zo_cI (4), zo_newA 25165968 4, zo_pR 8 23, zo_ldA 0, zo_cI (4), zo_newA 26214544 4, zo_pR 8 24, zo_ldA 0, zo_cI (4), zo_newA 27263120 4, zo_pR 8 25, zo_ldA 0, zo_cI (9), zo_newA 28311856 9, zo_pR 8 26, zo_ldA 0, zo_cI (9), zo_newA 29360432 9, zo_pR 8 27, zo_ldA 0, zo_cI (9), zo_newA 30409008 9, zo_pR 8 28, zo_ldA 0, zo_cI (5400), zo_newA 31630097 5400, zo_pR 8 29, zo_ldA 0, zo_cI (9), zo_newA 32506160 9, zo_pR 8 30, zo_ldA 0, zo_cI (18000), zo_newA 34130449 18000, zo_pR 8 31, zo_ldA 0, zo_cI (9), zo_newA 34603312 9, zo_pR 8 32, zo_ldA 0, zo_cI (9), zo_newA 35651888 9, zo_pR 8 33, zo_ldA 0, zo_cI (1), zo_pI 8 34, zo_ldA 0, zo_cI (16), zo_newA 36700691 16, zo_pR 8 36, zo_ldA 0, zo_cI (16), zo_newA 37749267 16, zo_pR 8 37, zo_ldA 0, zo_cI (16), zo_newA 38797843 16, zo_pR 8 38, zo_ldA 0, zo_cI (16), zo_newA 39846419 16, zo_pR 8 39, zo_ldA 0, zo_cI (656), zo_newA 40915473 656, zo_pR 8 41, zo_ldA 0, zo_cI (656), zo_newA 41964049 656, zo_pR 8 42, zo_ldA 0, zo_cI (656), zo_newA 43012625 656, zo_pR 8 43, zo_ldA 0, zo_cI (16), zo_newA 44040720 16, zo_pR 8 44, zo_ldA 0, zo_cI (16), zo_newA 45089299 16, zo_pR 8 45, zo_ldA 0, zo_cI (16), zo_newA 46137875 16, zo_pR 8 46, zo_ldA 0, zo_cI (16), zo_newA 47186448 16, zo_pR 8 47, zo_ldA 0, zo_cI (16), zo_newA 48235024 16, zo_pR 8 48, zo_ldA 0, zo_cI (2624), zo_newA 49367057 2624, zo_pR 8 50, zo_ldA 0, zo_cI (2624), zo_newA 50415633 2624, zo_pR 8 51, zo_ldA 0, zo_cI (2624), zo_newA 51464209 2624, zo_pR 8 52, zo_ldA 0, zo_cI (64), zo_newA 52430867 64, zo_pR 8 53, zo_ldA 0, zo_cI (64), zo_newA 53479440 64, zo_pR 8 54, zo_ldA 0, zo_cI (64), zo_newA 54528016 64, zo_pR 8 55, zo_ldA 0, zo_cI (64), zo_newA 55576592 64, zo_pR 8 56, zo_ldA 0, zo_cI (64), zo_newA 56625168 64, zo_pR 8 57, zo_ldA 0, zo_cI (64), zo_newA 57673744 64, zo_pR 8 58, zo_ldA 0, zo_cI (10560), zo_newA 59058193 10560, zo_pR 8 60, zo_ldA 0, zo_cI (33), zo_newA 59769904 33, zo_pR 8 61, zo_ldA 0, zo_cI (1353), zo_newA 60860721 1353, zo_pR 8 62, zo_ldA 0, zo_cI (33), zo_newA 61867056 33, zo_pR 8 63, zo_ldA 0, zo_cI (33), zo_newA 62915632 33, zo_pR 8 64, zo_ldA 0, zo_cI (700), zo_newA 63985553 700, zo_pR 8 65, zo_ldA 0, zo_cI (12), zo_newA 65012112 12, zo_dupR, zo_cI (0), zo_cI (263), zo_astI, zo_dupR, zo_cI (1), zo_cI (264), zo_astI, zo_dupR, zo_cI (2), zo_cI (296), zo_astI, zo_dupR, zo_cI (3), zo_cI (258), zo_astI, zo_dupR, zo_cI (4), zo_cI (273), zo_astI, zo_dupR, zo_cI (5), zo_cI (416), zo_astI, zo_dupR, zo_cI (6), zo_cI (415), zo_astI, zo_dupR, zo_cI (7), zo_cI (268), zo_astI, zo_dupR, zo_cI (8), zo_cI (436), zo_astI, zo_dupR, zo_cI (9), zo_cI (443), zo_astI, zo_dupR, zo_cI (10), zo_cI (437), zo_astI, zo_dupR, zo_cI (11), zo_cI (446), zo_astI, zo_pR 8 76, zo_ldA 0, zo_cI (12), zo_newA 66060688 12, zo_pR 8 77, zo_ldA 0, zo_cI (12), zo_newA 67109264 12, zo_pR 8 78, zo_ldA 0, zo_cI (12), zo_newA 68157840 12, zo_pR 8 79, zo_ldA 0, zo_cI (5), zo_newA 69206192 5, zo_pR 8 85, zo_ldA 0, zo_cI (5), zo_newA 70254768 5, zo_pR 8 86, zo_ldA 0, zo_cI (5), zo_newA 71303344 5, zo_pR 8 87, zo_ldA 0, zo_gR 8 5, zo_cI (0), zo_cI (109), zo_astB, zo_ldA 0, zo_gR 8 5, zo_cI (1), zo_cI (46), zo_astB, zo_ldA 0, zo_gR 8 5, zo_cI (2), zo_cI (104), zo_astB, zo_ldA 0, zo_gR 8 5, zo_cI (3), zo_cI (111), zo_astB, zo_ldA 0, zo_gR 8 5, zo_cI (4), zo_cI (109), zo_astB, zo_ldA 0, zo_gR 8 5, zo_cI (5), zo_cI (101), zo_astB, zo_ldA 0, zo_cI (6), zo_pI 8 6] xB84_0.2 (zD d) z_L8 [] σ (E xP84 (zD d))) Q
  refine tw_arr2 h hf hb 22020240 4 15 288 alen_22020240 ⟨rfl, rfl⟩ (by decide) (by decide) rfl (fun m => mj_I (by decide) m) (fun m => mur_0 (by decide) 0 m) rfl fun σ1 f1 _ _ h1 hf1 hb1 => ?_
  clear h hf hb
  refine tw_arr2 h1 hf1 hb1 23068816 4 16 292 alen_23068816 ⟨rfl, rfl⟩ (by decide) (by decide) rfl (fun m => mj_I (by decide) m) (fun m => mur_0 (by decide) 0 m) rfl fun σ2 f2 _ _ h2 hf2 hb2 => ?_
  clear h1 hf1 hb1
  refine tw_arr2 h2 hf2 hb2 24117392 4 17 296 alen_24117392 ⟨rfl, rfl⟩ (by decide) (by decide) rfl (fun m => mj_I (by decide) m) (fun m => mur_0 (by decide) 0 m) rfl fun σ3 f3 _ _ h3 hf3 hb3 => ?_
  clear h2 hf2 hb2
  refine tw_arr2 h3 hf3 hb3 25165968 4 18 300 alen_25165968 ⟨rfl, rfl⟩ (by decide) (by decide) rfl (fun m => mj_I (by decide) m) (fun m => mur_0 (by decide) 0 m) rfl fun σ4 f4 _ _ h4 hf4 hb4 => ?_
  clear h3 hf3 hb3
  refine tw_arr2 h4 hf4 hb4 26214544 4 19 304 alen_26214544 ⟨rfl, rfl⟩ (by decide) (by decide) rfl (fun m => mj_I (by decide) m) (fun m => mur_0 (by decide) 0 m) rfl fun σ5 f5 _ _ h5 hf5 hb5 => ?_
  clear h4 hf4 hb4
  refine tw_arr2 h5 hf5 hb5 27263120 4 20 308 alen_27263120 ⟨rfl, rfl⟩ (by decide) (by decide) rfl (fun m => mj_I (by decide) m) (fun m => mur_0 (by decide) 0 m) rfl fun σ6 f6 _ _ h6 hf6 hb6 => ?_
  clear h5 hf5 hb5
  refine tw_arr2 h6 hf6 hb6 28311856 9 21 317 alen_28311856 ⟨rfl, rfl⟩ (by decide) (by decide) rfl (fun m => mj_I (by decide) m) (fun m => mur_0 (by decide) 0 m) rfl fun σ7 f7 _ _ h7 hf7 hb7 => ?_
  clear h6 hf6 hb6
  refine tw_arr2 h7 hf7 hb7 29360432 9 22 326 alen_29360432 ⟨rfl, rfl⟩ (by decide) (by decide) rfl (fun m => mj_I (by decide) m) (fun m => mur_0 (by decide) 0 m) rfl fun σ8 f8 _ _ h8 hf8 hb8 => ?_
  clear h7 hf7 hb7
  refine tw_arr2 h8 hf8 hb8 30409008 9 23 335 alen_30409008 ⟨rfl, rfl⟩ (by decide) (by decide) rfl (fun m => mj_I (by decide) m) (fun m => mur_0 (by decide) 0 m) rfl fun σ9 f9 _ _ h9 hf9 hb9 => ?_
  clear h8 hf8 hb8
  refine tw_arr2 h9 hf9 hb9 31630097 5400 24 5735 alen_31630097 ⟨rfl, rfl⟩ (by decide) (by decide) rfl (fun m => mj_I (by decide) m) (fun m => mur_0 (by decide) 0 m) rfl fun σ10 f10 _ _ h10 hf10 hb10 => ?_
  clear h9 hf9 hb9
  refine tw_arr2 h10 hf10 hb10 32506160 9 25 5744 alen_32506160 ⟨rfl, rfl⟩ (by decide) (by decide) rfl (fun m => mj_I (by decide) m) (fun m => mur_0 (by decide) 0 m) rfl fun σ11 f11 _ _ h11 hf11 hb11 => ?_
  clear h10 hf10 hb10
  refine tw_arr2 h11 hf11 hb11 34130449 18000 26 23744 alen_34130449 ⟨rfl, rfl⟩ (by decide) (by decide) rfl (fun m => mj_I (by decide) m) (fun m => mur_0 (by decide) 0 m) rfl fun σ12 f12 _ _ h12 hf12 hb12 => ?_
  clear h11 hf11 hb11
  refine tw_arr2 h12 hf12 hb12 34603312 9 27 23753 alen_34603312 ⟨rfl, rfl⟩ (by decide) (by decide) rfl (fun m => mj_I (by decide) m) (fun m => mur_0 (by decide) 0 m) rfl fun σ13 f13 _ _ h13 hf13 hb13 => ?_
  clear h12 hf12 hb12
  refine tw_arr2 h13 hf13 hb13 35651888 9 28 23762 alen_35651888 ⟨rfl, rfl⟩ (by decide) (by decide) rfl (fun m => mj_I (by decide) m) (fun m => mur_0 (by decide) 0 m) rfl fun σ14 f14 _ _ h14 hf14 hb14 => ?_
  clear h13 hf13 hb13
  exact mc_i2 h14 hf14 hb14 k
theorem mc_i0 {L : Nat} {xs : Nat → Int32} {f : Nat → Nat} {ln sl l0 s0 : Nat} {σ : z_St} (h : z_cs L xs (z_um (0)) (z_ej 0 0 0) (z_e8 [3, 5, 8, 9, 10, 11, 12, 13, 14, 15, 16, 17, 18, 19, 20, 21, 22, 23, 24, 25, 26, 27, 28, 29, 30, 31, 32, 33, 36, 37, 38, 39, 41, 42, 43, 44, 45, 46, 47, 48, 50, 51, 52, 53, 54, 55, 56, 57, 58, 60, 61, 62, 63, 64, 65, 76, 77, 78, 79, 85, 86, 87]) f ln sl σ) (hf : f 1 = 276 ∧ f 80741649 = 276) (hb : ln ≤ l0 + 0 ∧ sl ≤ s0 + 0) {d : Nat} {Q : z_St → Option z_V → Prop} (k : ∀ σ' f' ln' sl', z_cs L xs (z_um 71303345) (z_ej 12 6 2) (z_e8 []) f' ln' sl' σ' → f' 1 = 276 ∧ f' 80741649 = 276 → ln' ≤ l0 + 100 → sl' ≤ s0 + 50000 → Q σ' none) : wp (z_run (List.drop 2 xB84_0.1) xB84_0.2 (zD d) z_L8 [] σ (E xP84 (zD d))) Q := by
  show wp (z_run [zo_ldA 0, zo_cI (40), zo_newA 7341329 40, zo_pR 8 3, zo_ldA 0, zo_cI (40), zo_newA 8389905 40, zo_pR 8 5, zo_ldA 0, zo_cI (160), zo_newA 9442321 160, zo_pR 8 8, zo_ldA 0, zo_cI (4), zo_newA 10485904 4, zo_pR 8 9, zo_ldA 0, zo_cI (4), zo_newA 11534482 4, zo_pR 8 10, zo_ldA 0, zo_cI (4), zo_newA 12583056 4, zo_pR 8 11, zo_ldA 0, zo_cI (4), zo_newA 13631632 4, zo_pR 8 12, zo_ldA 0, zo_cI (4), zo_newA 14680208 4, zo_pR 8 13, zo_ldA 0, zo_cI (4), zo_newA 15728784 4, zo_pR 8 14, zo_ldA 0, zo_cI (4), zo_newA 16777360 4, zo_pR 8 15, zo_ldA 0, zo_cI (4), zo_newA 17825938 4, zo_pR 8 16, zo_ldA 0, zo_cI (4), zo_newA 18874512 4, zo_pR 8 17, zo_ldA 0, zo_cI (4), zo_newA 19923088 4, zo_pR 8 18, zo_ldA 0, zo_cI (4), zo_newA 20971664 4, zo_pR 8 19, zo_ldA 0, zo_cI (4), zo_newA 22020240 4, zo_pR 8 20, zo_ldA 0, zo_cI (4), zo_newA 23068816 4, zo_pR 8 21, zo_ldA 0, zo_cI (4), zo_newA 24117392 4, zo_pR 8 22, zo_ldA 0, zo_cI (4), zo_newA 25165968 4, zo_pR 8 23, zo_ldA 0, zo_cI (4), zo_newA 26214544 4, zo_pR 8 24, zo_ldA 0, zo_cI (4), zo_newA 27263120 4, zo_pR 8 25, zo_ldA 0, zo_cI (9), zo_newA 28311856 9, zo_pR 8 26, zo_ldA 0, zo_cI (9), zo_newA 29360432 9, zo_pR 8 27, zo_ldA 0, zo_cI (9), zo_newA 30409008 9, zo_pR 8 28, zo_ldA 0, zo_cI (5400), zo_newA 31630097 5400, zo_pR 8 29, zo_ldA 0, zo_cI (9), zo_newA 32506160 9, zo_pR 8 30, zo_ldA 0, zo_cI (18000), zo_newA 34130449 18000, zo_pR 8 31, zo_ldA 0, zo_cI (9), zo_newA 34603312 9, zo_pR 8 32, zo_ldA 0, zo_cI (9), zo_newA 35651888 9, zo_pR 8 33, zo_ldA 0, zo_cI (1), zo_pI 8 34, zo_ldA 0, zo_cI (16), zo_newA 36700691 16, zo_pR 8 36, zo_ldA 0, zo_cI (16), zo_newA 37749267 16, zo_pR 8 37, zo_ldA 0, zo_cI (16), zo_newA 38797843 16, zo_pR 8 38, zo_ldA 0, zo_cI (16), zo_newA 39846419 16, zo_pR 8 39, zo_ldA 0, zo_cI (656), zo_newA 40915473 656, zo_pR 8 41, zo_ldA 0, zo_cI (656), zo_newA 41964049 656, zo_pR 8 42, zo_ldA 0, zo_cI (656), zo_newA 43012625 656, zo_pR 8 43, zo_ldA 0, zo_cI (16), zo_newA 44040720 16, zo_pR 8 44, zo_ldA 0, zo_cI (16), zo_newA 45089299 16, zo_pR 8 45, zo_ldA 0, zo_cI (16), zo_newA 46137875 16, zo_pR 8 46, zo_ldA 0, zo_cI (16), zo_newA 47186448 16, zo_pR 8 47, zo_ldA 0, zo_cI (16), zo_newA 48235024 16, zo_pR 8 48, zo_ldA 0, zo_cI (2624), zo_newA 49367057 2624, zo_pR 8 50, zo_ldA 0, zo_cI (2624), zo_newA 50415633 2624, zo_pR 8 51, zo_ldA 0, zo_cI (2624), zo_newA 51464209 2624, zo_pR 8 52, zo_ldA 0, zo_cI (64), zo_newA 52430867 64, zo_pR 8 53, zo_ldA 0, zo_cI (64), zo_newA 53479440 64, zo_pR 8 54, zo_ldA 0, zo_cI (64), zo_newA 54528016 64, zo_pR 8 55, zo_ldA 0, zo_cI (64), zo_newA 55576592 64, zo_pR 8 56, zo_ldA 0, zo_cI (64), zo_newA 56625168 64, zo_pR 8 57, zo_ldA 0, zo_cI (64), zo_newA 57673744 64, zo_pR 8 58, zo_ldA 0, zo_cI (10560), zo_newA 59058193 10560, zo_pR 8 60, zo_ldA 0, zo_cI (33), zo_newA 59769904 33, zo_pR 8 61, zo_ldA 0, zo_cI (1353), zo_newA 60860721 1353, zo_pR 8 62, zo_ldA 0, zo_cI (33), zo_newA 61867056 33, zo_pR 8 63, zo_ldA 0, zo_cI (33), zo_newA 62915632 33, zo_pR 8 64, zo_ldA 0, zo_cI (700), zo_newA 63985553 700, zo_pR 8 65, zo_ldA 0, zo_cI (12), zo_newA 65012112 12, zo_dupR, zo_cI (0), zo_cI (263), zo_astI, zo_dupR, zo_cI (1), zo_cI (264), zo_astI, zo_dupR, zo_cI (2), zo_cI (296), zo_astI, zo_dupR, zo_cI (3), zo_cI (258), zo_astI, zo_dupR, zo_cI (4), zo_cI (273), zo_astI, zo_dupR, zo_cI (5), zo_cI (416), zo_astI, zo_dupR, zo_cI (6), zo_cI (415), zo_astI, zo_dupR, zo_cI (7), zo_cI (268), zo_astI, zo_dupR, zo_cI (8), zo_cI (436), zo_astI, zo_dupR, zo_cI (9), zo_cI (443), zo_astI, zo_dupR, zo_cI (10), zo_cI (437), zo_astI, zo_dupR, zo_cI (11), zo_cI (446), zo_astI, zo_pR 8 76, zo_ldA 0, zo_cI (12), zo_newA 66060688 12, zo_pR 8 77, zo_ldA 0, zo_cI (12), zo_newA 67109264 12, zo_pR 8 78, zo_ldA 0, zo_cI (12), zo_newA 68157840 12, zo_pR 8 79, zo_ldA 0, zo_cI (5), zo_newA 69206192 5, zo_pR 8 85, zo_ldA 0, zo_cI (5), zo_newA 70254768 5, zo_pR 8 86, zo_ldA 0, zo_cI (5), zo_newA 71303344 5, zo_pR 8 87, zo_ldA 0, zo_gR 8 5, zo_cI (0), zo_cI (109), zo_astB, zo_ldA 0, zo_gR 8 5, zo_cI (1), zo_cI (46), zo_astB, zo_ldA 0, zo_gR 8 5, zo_cI (2), zo_cI (104), zo_astB, zo_ldA 0, zo_gR 8 5, zo_cI (3), zo_cI (111), zo_astB, zo_ldA 0, zo_gR 8 5, zo_cI (4), zo_cI (109), zo_astB, zo_ldA 0, zo_gR 8 5, zo_cI (5), zo_cI (101), zo_astB, zo_ldA 0, zo_cI (6), zo_pI 8 6] xB84_0.2 (zD d) z_L8 [] σ (E xP84 (zD d))) Q
  refine tw_arr2 h hf hb 7341329 40 1 40 alen_7341329 ⟨rfl, rfl⟩ (by decide) (by decide) rfl (fun m => mj_I (by decide) m) (fun m => mur_0 (by decide) 0 m) rfl fun σ1 f1 _ _ h1 hf1 hb1 => ?_
  clear h hf hb
  refine tw_arr2 h1 hf1 hb1 8389905 40 2 80 alen_8389905 ⟨rfl, rfl⟩ (by decide) (by decide) rfl (fun m => ej_h m) (fun m => mur_0 (by decide) 0 m) rfl fun σ2 f2 _ _ h2 hf2 hb2 => ?_
  clear h1 hf1 hb1
  refine tw_arr2 h2 hf2 hb2 9442321 160 3 240 alen_9442321 ⟨rfl, rfl⟩ (by decide) (by decide) rfl (fun m => mj_I (by decide) m) (fun m => mur_0 (by decide) 0 m) rfl fun σ3 f3 _ _ h3 hf3 hb3 => ?_
  clear h2 hf2 hb2
  refine tw_arr2 h3 hf3 hb3 10485904 4 4 244 alen_10485904 ⟨rfl, rfl⟩ (by decide) (by decide) rfl (fun m => mj_I (by decide) m) (fun m => mur_0 (by decide) 0 m) rfl fun σ4 f4 _ _ h4 hf4 hb4 => ?_
  clear h3 hf3 hb3
  refine tw_arr2 h4 hf4 hb4 11534482 4 5 248 alen_11534482 ⟨rfl, rfl⟩ (by decide) (by decide) rfl (fun m => mj_I (by decide) m) (fun m => mur_0 (by decide) 0 m) rfl fun σ5 f5 _ _ h5 hf5 hb5 => ?_
  clear h4 hf4 hb4
  refine tw_arr2 h5 hf5 hb5 12583056 4 6 252 alen_12583056 ⟨rfl, rfl⟩ (by decide) (by decide) rfl (fun m => mj_I (by decide) m) (fun m => mur_0 (by decide) 0 m) rfl fun σ6 f6 _ _ h6 hf6 hb6 => ?_
  clear h5 hf5 hb5
  refine tw_arr2 h6 hf6 hb6 13631632 4 7 256 alen_13631632 ⟨rfl, rfl⟩ (by decide) (by decide) rfl (fun m => mj_I (by decide) m) (fun m => mur_0 (by decide) 0 m) rfl fun σ7 f7 _ _ h7 hf7 hb7 => ?_
  clear h6 hf6 hb6
  refine tw_arr2 h7 hf7 hb7 14680208 4 8 260 alen_14680208 ⟨rfl, rfl⟩ (by decide) (by decide) rfl (fun m => mj_I (by decide) m) (fun m => mur_0 (by decide) 0 m) rfl fun σ8 f8 _ _ h8 hf8 hb8 => ?_
  clear h7 hf7 hb7
  refine tw_arr2 h8 hf8 hb8 15728784 4 9 264 alen_15728784 ⟨rfl, rfl⟩ (by decide) (by decide) rfl (fun m => mj_I (by decide) m) (fun m => mur_0 (by decide) 0 m) rfl fun σ9 f9 _ _ h9 hf9 hb9 => ?_
  clear h8 hf8 hb8
  refine tw_arr2 h9 hf9 hb9 16777360 4 10 268 alen_16777360 ⟨rfl, rfl⟩ (by decide) (by decide) rfl (fun m => mj_I (by decide) m) (fun m => mur_0 (by decide) 0 m) rfl fun σ10 f10 _ _ h10 hf10 hb10 => ?_
  clear h9 hf9 hb9
  refine tw_arr2 h10 hf10 hb10 17825938 4 11 272 alen_17825938 ⟨rfl, rfl⟩ (by decide) (by decide) rfl (fun m => mj_I (by decide) m) (fun m => mur_0 (by decide) 0 m) rfl fun σ11 f11 _ _ h11 hf11 hb11 => ?_
  clear h10 hf10 hb10
  refine tw_arr2 h11 hf11 hb11 18874512 4 12 276 alen_18874512 ⟨rfl, rfl⟩ (by decide) (by decide) rfl (fun m => mj_I (by decide) m) (fun m => mur_0 (by decide) 0 m) rfl fun σ12 f12 _ _ h12 hf12 hb12 => ?_
  clear h11 hf11 hb11
  refine tw_arr2 h12 hf12 hb12 19923088 4 13 280 alen_19923088 ⟨rfl, rfl⟩ (by decide) (by decide) rfl (fun m => mj_I (by decide) m) (fun m => mur_0 (by decide) 0 m) rfl fun σ13 f13 _ _ h13 hf13 hb13 => ?_
  clear h12 hf12 hb12
  refine tw_arr2 h13 hf13 hb13 20971664 4 14 284 alen_20971664 ⟨rfl, rfl⟩ (by decide) (by decide) rfl (fun m => mj_I (by decide) m) (fun m => mur_0 (by decide) 0 m) rfl fun σ14 f14 _ _ h14 hf14 hb14 => ?_
  clear h13 hf13 hb13
  exact mc_i1 h14 hf14 hb14 k
theorem mc_init {L : Nat} {xs : Nat → Int32} {f : Nat → Nat} {ln sl : Nat} {σ : z_St} (h : z_cs L xs (z_um 0) (z_ej 0 0 0) (z_e8 [3, 5, 8, 9, 10, 11, 12, 13, 14, 15, 16, 17, 18, 19, 20, 21, 22, 23, 24, 25, 26, 27, 28, 29, 30, 31, 32, 33, 36, 37, 38, 39, 41, 42, 43, 44, 45, 46, 47, 48, 50, 51, 52, 53, 54, 55, 56, 57, 58, 60, 61, 62, 63, 64, 65, 76, 77, 78, 79, 85, 86, 87]) f ln sl σ) (hf : f 1 = 276 ∧ f 80741649 = 276) {d : Nat} {Q : z_St → Option z_V → Prop} (k : ∀ σ' f' ln' sl', z_cs L xs (z_um 71303345) (z_ej 12 6 2) (z_e8 []) f' ln' sl' σ' → f' 1 = 276 ∧ f' 80741649 = 276 → ln' ≤ ln + 100 → sl' ≤ sl + 50000 → Q σ' none) : wp (zD (d + 1) 84 [.inr (.inr (some (8, 0)))] σ) Q := by
  refine wp_eq (show zD (d + 1) 84 [.inr (.inr (some (8, 0)))] σ = E xP84 (zD d) 0 z_L8 [] σ from rfl) (wp_eq (E_fix (pg84 ▸ pg_tame 84) (zm d) 0 _ _ _) ?_)
  show wp (z_run xB84_0.1 xB84_0.2 (zD d) z_L8 [] σ (E xP84 (zD d))) Q
  show wp (z_run (zo_ldA 0 :: zo_obj :: List.drop 2 xB84_0.1) xB84_0.2 (zD d) z_L8 [] σ (E xP84 (zD d))) Q
  refine lw_1 (fun _ => rfl) ?_
  show wp (gd (z_w [] ≤ 8) (z_run _ _ (zD d) z_L8 [] σ (E xP84 (zD d)))) Q
  exact wp_gd (by decide) (mc_i0 (l0 := ln) (s0 := sl) h hf ⟨Nat.le_refl _, Nat.le_refl _⟩ k)
