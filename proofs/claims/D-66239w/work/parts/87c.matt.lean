/-! PART 87c (src 87c.matt.src): the twin's loop over attributes computes fn_tw -/
set_option maxHeartbeats 1600000
/-- the head and the groups up to a depth stay -/
def z_ed (dep : Nat) (σ σ' : z_St) : Prop := (∀ n, 67 ≤ n → n ≤ 75 → gI σ' 8 n 0 = gI σ 8 n 0) ∧ (∀ a, a = 69206192 ∨ a = 70254768 ∨ a = 71303344 → ∀ n, n ≤ dep → gI σ' a 0 n = gI σ a 0 n)
theorem ed_tr {d e : Nat} {σ0 σ1 σ2 : z_St} (h : z_ed d σ0 σ1) (h2 : z_ed e σ1 σ2) (hd : d ≤ e) : z_ed d σ0 σ2 :=
  ⟨fun n a b => (h2.1 n a b).trans (h.1 n a b), fun a ha n hn => (h2.2 a ha n (by omega)).trans (h.2 a ha n hn)⟩
theorem ed_e9 {d : Nat} {σ0 σ1 : z_St} (h : z_e9 σ0 σ1) : z_ed d σ0 σ1 := ⟨h.1, fun a ha n _ => h.2 a ha n⟩
theorem ed_rf (d : Nat) (σ : z_St) : z_ed d σ σ := ⟨fun _ _ _ => rfl, fun _ _ _ _ => rfl⟩
theorem tw_wr {r : Nat → Int32} {σ : z_St} {c : Nat} {S : w_S} (h : z_tw r σ c S) (w x : Int32) : z_tw r (wI (wI σ 8 74 0 w) 8 75 0 x) c S := ⟨fun k hk => h.1 k hk, h.2⟩
theorem tw_w3 {r : Nat → Int32} {σ : z_St} {c : Nat} {S : w_S} (h : z_tw r σ c S) (n : Nat) (x y z : Int32) : z_tw r (wI (wI (wI σ 69206192 0 n x) 70254768 0 n y) 71303344 0 n z) c S := ⟨fun k hk => h.1 k hk, h.2⟩
theorem ed_w3 {σ : z_St} {d n : Nat} (hn : d < n) (x y z : Int32) : z_ed d σ (wI (wI (wI σ 69206192 0 n x) 70254768 0 n y) 71303344 0 n z) := by
  refine ⟨fun m _ _ => rfl, fun a ha m hm => ?_⟩
  rw [gI_wI, if_neg (fun q => by omega), gI_wI, if_neg (fun q => by omega), gI_wI, if_neg (fun q => by omega)]
/-- what is known of the message's head -/
def z_hs (σ σ' : z_St) : Prop := ∀ n, 67 ≤ n → n ≤ 73 → gI σ' 8 n 0 = gI σ 8 n 0
theorem ml_att {T : z_St} {A : w_A} {c : Nat} (hc : c ≤ 8) (hP : vP A = none) {d : Nat} : ∀ (f k e dep : Nat) (G : Int32) (S : w_S) (σ : z_St) (Q : z_St → Option z_V → Prop), e ≤ k + f → e ≤ 600 → 20 ≤ k ∧ k ≤ 1000 → dep ≤ 3 → 8 * S.1.length + 20 ≤ k → z_s0 S → w_M T σ A → gI σ 8 67 0 = Int32.ofNat (600 * c) → gI σ 8 74 0 = 0 → z_tw (vI A 64) σ c S → gI σ 69206192 0 dep = Int32.ofNat e → (dep = 1 → gI σ 71303344 0 1 = G) →
    (∀ σ' k', (fn_tw (vI A 64) c f k e dep G S).1.1 = 0 → e ≤ k' → k' ≤ 1200 → w_M T σ' A → z_ed dep σ σ' → z_tw (vI A 64) σ' c (fn_tw (vI A 64) c f k e dep G S).2 → wp (E xP114 (zD (d + 3)) 1 [some (.inr (.inr (some (8, 0)))), some (.inl (Int32.ofNat dep)), some (.inl (Int32.ofNat k')), none, none, none, none, none, none, none] [] σ') Q) →
    (∀ σ', ¬ (fn_tw (vI A 64) c f k e dep G S).1.1 = 0 → w_M T σ' A → z_hs σ σ' → gI σ' 8 74 0 = (fn_tw (vI A 64) c f k e dep G S).1.1 → gI σ' 8 75 0 = (fn_tw (vI A 64) c f k e dep G S).1.2 → z_tw (vI A 64) σ' c (fn_tw (vI A 64) c f k e dep G S).2 → Q σ' none) →
    wp (E xP114 (zD (d + 3)) 1 [some (.inr (.inr (some (8, 0)))), some (.inl (Int32.ofNat dep)), some (.inl (Int32.ofNat k)), none, none, none, none, none, none, none] [] σ) Q
  | 0, k, e, dep, G, S, σ, Q, he, h6, hk, hd, hl, hs0, hM, hb, hw, hs, hE, hG, k0, k1 => k0 σ k rfl (by omega) (by omega) hM (ed_rf _ _) hs
  | f + 1, k, e, dep, G, S, σ, Q, he, h6, hk, hd, hl, hs0, hM, hb, hw, hs, hE, hG, k0, k1 => by
    by_cases h1 : e ≤ k
    · have hR : fn_tw (vI A 64) c (f + 1) k e dep G S = ((0, 0), S) := by rw [tw_s, if_pos h1]
      rw [hR] at k0
      exact k0 σ k rfl h1 (by omega) hM (ed_rf _ _) hs
    have hll : S.1.length ≤ 200 := by omega
    generalize hrr : vI A 64 = r at *
    have hkwr : ∀ (w x : Int32) (S' : w_S), fn_tw r c (f + 1) k e dep G S = ((w, x), S') → ¬ w = 0 → ∀ σ', w_M T σ' A → z_hs σ σ' → z_tw r σ' c S' → ∀ (K : z_St → Option z_R), (∀ σ'', gI σ'' 8 74 0 = w → (Q σ'' none) → wp (K σ'') Q) → wp (zD (d + 3) 111 [.inr (.inr (some (8, 0))), .inl w, .inl x] σ') (fun σ v => v = none ∧ wp (K σ) Q) := by
      intro w x S' hR hw σ' hM hh hs K hK
      refine mw_fault (d := d + 2) hM hP fun hM => ⟨rfl, hK _ rfl ?_⟩
      refine k1 _ (by rw [hR]; exact hw) hM (fun n h1 h2 => ?_) (by rw [hR]; rfl) (by rw [hR]; rfl) (by rw [hR]; exact tw_wr hs w x)
      rw [gI_wI, if_neg (fun q => by omega), gI_wI, if_neg (fun q => by omega)]
      exact hh n h1 h2
    have out : ∀ (x1 x2 : Int32) (w : Int32), ¬ w = 0 → ∀ σ'', gI σ'' 8 74 0 = w → Q σ'' none → wp (E xP114 (zD (d + 3)) 30 [some (.inr (.inr (some (8, 0)))), some (.inl x1), some (.inl x2), none, none, none, none, none, none, none] [] σ'') Q := by
      intro x1 x2 w hw σ'' h74 hq
      refine wp_eq (e114_30 ..) (wp_eq (e114_1 ..) (wp_if (fun h => absurd (h74.symm.trans h) hw) (fun _ => wp_eq (e114_31 ..) (wp_ret hq))))
    have hnl := nl_lt r c k
    have hhs := hs_ge r c k
    have hs0' : z_hs σ σ := fun _ _ _ => rfl
    /- the rest, from the next place -/
    have rest : ∀ (S' : w_S) (σ' : z_St), 8 ≤ nl r c k → nl r c k ≤ e - k → fn_tw r c (f + 1) k e dep G S = fn_tw r c f (k + (nl r c k + 3) / 4 * 4) e dep G S' → 8 * S'.1.length + 20 ≤ k + 8 → z_s0 S' → w_M T σ' A → z_ed dep σ σ' → z_tw r σ' c S' → wp (E xP114 (zD (d + 3)) 1 [some (.inr (.inr (some (8, 0)))), some (.inl (Int32.ofNat dep)), some (.inl (Int32.ofNat (k + (nl r c k + 3) / 4 * 4))), none, none, none, none, none, none, none] [] σ') Q := by
      intro S' σ' hn8 hne hR hl hs0 hM hed hs
      subst hrr
      refine ml_att hc hP f (k + (nl (vI A 64) c k + 3) / 4 * 4) e dep G S' σ' Q (by omega) h6 (by omega) hd (by omega) hs0 hM ((hed.1 67 (by decide) (by decide)).trans hb) ((hed.1 74 (by decide) (by decide)).trans hw) hs ((hed.2 _ (.inl rfl) dep (Nat.le_refl _)).trans hE) (fun h => ?_) ?_ ?_
      · subst h
        exact (hed.2 _ (.inr (.inr rfl)) 1 (Nat.le_refl _)).trans (hG rfl)
      · intro σ'' k' h1 h2 h3 h4 h5 h6
        rw [hR] at k0
        exact k0 σ'' k' h1 h2 h3 h4 (ed_tr hed h5 (Nat.le_refl _)) h6
      · intro σ'' h1 h2 h3 h4 h5 h6
        rw [hR] at k1
        exact k1 σ'' h1 h2 (fun n a b => (h3 n a b).trans (hed.1 n a (by omega))) h4 h5 h6
    have k4 : wp (E xP114 (zD (d + 3)) 4 [some (.inr (.inr (some (8, 0)))), some (.inl (Int32.ofNat dep)), some (.inl (Int32.ofNat k)), none, none, none, none, none, none, none] [] σ) Q := by
      refine wp_eq (e114_4 ..) (wp_ar (rm_p85 hM) aty_69206192 alen_69206192 rfl (by omega) (by decide) ?_)
      dsimp only
      rw [io_nat (by omega), hE]
      refine wp_if (fun _ => ?_) (fun h => absurd (by omega) ((io_lt (show k < 2147483648 by omega) (show e < 2147483648 by omega)) ▸ h))
      refine wp_eq (e114_6 ..) (wp_ar (rm_p85 hM) aty_69206192 alen_69206192 rfl (by omega) (by decide) ?_)
      dsimp only
      rw [io_nat (by omega), hE, io_sub (show k ≤ e by omega)]
      refine wp_if (fun h => ?_) (fun h => ?_) <;> rw [io_lle (by omega) (by decide)] at h
      rotate_left
      · have h2 : e - k < 8 := by
          have : ¬ 8 ≤ e - k := h
          omega
        refine wp_eq (e114_7 ..) (wp_cv (hkwr 5014 0 S (by rw [tw_s, if_neg h1, if_pos h2]) (by decide) σ hM hs0' hs _ fun σ'' _ hq => wp_ret hq))
      have h2 : ¬ e - k < 8 := by
        have : 8 ≤ e - k := h
        omega
      refine wp_eq (e114_8 ..) (wp_cr (mw_n4 (d := d + 1) (k := k) hM hb hc (by omega) rfl ⟨_, rfl, wp_asI0 ?_⟩))
      refine wp_cr (mw_oct (d := d + 2) (k := k + 4) hM hb hc (by omega) (io_add_l k 4) ⟨_, rfl, wp_asI0 ?_⟩)
      refine wp_cr (mw_n3 (d := d + 1) (k := k + 5) hM hb hc (by omega) (io_add_l k 5) ⟨_, rfl, wp_asI0 ?_⟩)
      rw [hrr, n3_nl]
      have w16 : ∀ σ', w_M T σ' A → z_hs σ σ' → z_tw r σ' c S → fn_tw r c (f + 1) k e dep G S = ((5014, n4 r c k), S) → wp (E xP114 (zD (d + 3)) 16 [some (.inr (.inr (some (8, 0)))), some (.inl (Int32.ofNat dep)), some (.inl (Int32.ofNat k)), some (.inl (n4 r c k)), none, none, none, none, none, none] [] σ') Q := by
        intro σ' hM hh hs hR
        exact wp_eq (e114_16 ..) (wp_cv (hkwr 5014 (n4 r c k) S hR (by decide) σ' hM hh hs _ (out _ _ 5014 (by decide))))
      have w26 : ∀ σ', w_M T σ' A → z_hs σ σ' → z_tw r σ' c S → fn_tw r c (f + 1) k e dep G S = ((5014, n4 r c k), S) → wp (E xP114 (zD (d + 3)) 26 [some (.inr (.inr (some (8, 0)))), some (.inl (Int32.ofNat dep)), some (.inl (Int32.ofNat k)), some (.inl (n4 r c k)), none, none, none, none, none, none] [] σ') Q := by
        intro σ' hM hh hs hR
        exact wp_eq (e114_26 ..) (wp_cv (hkwr 5014 (n4 r c k) S hR (by decide) σ' hM hh hs _ (out _ _ 5014 (by decide))))
      have key27 : ¬ fn_kd r c k = 0 → nl r c k ≤ e - k → 8 ≤ nl r c k → fn_fits (fn_kd r c k) (nl r c k - 8) → ¬ (fn_kd r c k = 5 ∧ dep = 3) → fn_tw r c (f + 1) k e dep G S = (if fn_kd r c k = 5 then
      (if (fn_tw r c f (k + 8) (k + nl r c k) (dep + 1) (tgrp dep (n4 r c k) (tsee dep G (n4 r c k, k + 8, nl r c k - 8) S).1) (tsee dep G (n4 r c k, k + 8, nl r c k - 8) S)).1.1 ≠ 0
        then fn_tw r c f (k + 8) (k + nl r c k) (dep + 1) (tgrp dep (n4 r c k) (tsee dep G (n4 r c k, k + 8, nl r c k - 8) S).1) (tsee dep G (n4 r c k, k + 8, nl r c k - 8) S)
        else fn_tw r c f (k + (nl r c k + 3) / 4 * 4) e dep G (fn_tw r c f (k + 8) (k + nl r c k) (dep + 1) (tgrp dep (n4 r c k) (tsee dep G (n4 r c k, k + 8, nl r c k - 8) S).1) (tsee dep G (n4 r c k, k + 8, nl r c k - 8) S)).2)
    else fn_tw r c f (k + (nl r c k + 3) / 4 * 4) e dep G (tsee dep G (n4 r c k, k + 8, nl r c k - 8) S)) → wp (E xP114 (zD (d + 3)) 27 [some (.inr (.inr (some (8, 0)))), some (.inl (Int32.ofNat dep)), some (.inl (Int32.ofNat k)), some (.inl (n4 r c k)), none, some (.inl (Int32.ofNat (nl r c k))), none, some (.inl (fn_kd r c k)), some (.inl (Int32.ofNat (k + (nl r c k + 3) / 4 * 4))), none] [] σ) Q := by
        intro hk hn1 hn2 f1 f2 base
        obtain ⟨hs8, hkk⟩ := hs_8 hk
        have h258 : dep = 0 → n4 r c k = 258 → k + 8 + 4 ≤ 600 := by
          intro _ h
          rw [hkk, h] at f1
          have e : fn_kind 258 = 2 := by decide
          rw [e] at f1
          have : fn_fits 2 (nl r c k - 8) = (nl r c k - 8 = 4) := by unfold fn_fits; simp
          rw [this] at f1
          omega
        have hS0 : z_s0 (tsee dep G (n4 r c k, k + 8, nl r c k - 8) S) := tsee_s0 hs0 ⟨by show 0 < k + 8; omega, by show k + 8 < 2000; omega⟩
        have hSl := tsee_len dep G (n4 r c k, k + 8, nl r c k - 8) S
        refine wp_eq (e114_27 ..) (wp_cv (mw_see (d := d) (S := S) (fr := k + 8) (n := nl r c k - 8) (dep := dep) (G := G) hM hP (by rw [hrr]; exact hs) hs0 hll hc hb (io_add_l k 8) (io_sub hn2) rfl hd hG h258 fun σ1 hM1 hs1 he1 => ⟨rfl, ?_⟩))
        rw [hrr] at hs1
        generalize tsee dep G (n4 r c k, k + 8, nl r c k - 8) S = S1 at *
        refine wp_if (fun h5 => ?_) (fun h5 => ?_)
        · rw [if_pos h5] at base
          refine wp_eq (e114_28 ..) (wp_cr (mw_group (d := d + 2) (S := S1) (c := c) (dep := dep) hM1 (by rw [hrr]; exact hs1) (by omega) rfl hd ⟨_, rfl, wp_asI0 ?_⟩))
          have hd3 : ¬ dep = 3 := fun q => f2 ⟨h5, q⟩
          generalize hGG : tgrp dep (n4 r c k) S1.1 = G1 at *
          simp only [io_add_l, io_add]
          refine (wp_ar (k := dep + 1) (rm_p85 hM1) aty_69206192 alen_69206192 rfl (by omega) (by decide) ?_)
          have hi31 : dep + 1 < 2147483648 := by omega
          simp only [io_nat hi31]
          have hM2 := mwA_69206192 hM1 hP (dep + 1) (Int32.ofNat (k + nl r c k))
          refine wp_sw (wp_ar (k := dep + 1) (rm_p86 hM2) aty_70254768 alen_70254768 rfl (by omega) (by decide) ?_)
          have hM3 := mwA_70254768 hM2 hP (dep + 1) (Int32.ofNat (k + (nl r c k + 3) / 4 * 4))
          refine wp_sw (wp_ar (k := dep + 1) (rm_p87 hM3) aty_71303344 alen_71303344 rfl (by omega) (by decide) ?_)
          have hM4 := mwA_71303344 hM3 hP (dep + 1) G1
          refine wp_sw ?_
          have hs4 := tw_w3 hs1 (dep + 1) (Int32.ofNat (k + nl r c k)) (Int32.ofNat (k + (nl r c k + 3) / 4 * 4)) G1
          have hd4 := ed_w3 (σ := σ1) (d := dep) (n := dep + 1) (by omega) (Int32.ofNat (k + nl r c k)) (Int32.ofNat (k + (nl r c k + 3) / 4 * 4)) G1
          have hE4 : gI (wI (wI (wI σ1 69206192 0 (dep + 1) (Int32.ofNat (k + nl r c k))) 70254768 0 (dep + 1) (Int32.ofNat (k + (nl r c k + 3) / 4 * 4))) 71303344 0 (dep + 1) G1) 69206192 0 (dep + 1) = Int32.ofNat (k + nl r c k) := by
            rw [gI_wI, if_neg (fun q => absurd q.1 (by decide)), gI_wI, if_neg (fun q => absurd q.1 (by decide)), gI_wI, if_pos ⟨rfl, rfl, rfl⟩]
          have hB4 : gI (wI (wI (wI σ1 69206192 0 (dep + 1) (Int32.ofNat (k + nl r c k))) 70254768 0 (dep + 1) (Int32.ofNat (k + (nl r c k + 3) / 4 * 4))) 71303344 0 (dep + 1) G1) 70254768 0 (dep + 1) = Int32.ofNat (k + (nl r c k + 3) / 4 * 4) := by
            rw [gI_wI, if_neg (fun q => absurd q.1 (by decide)), gI_wI, if_pos ⟨rfl, rfl, rfl⟩]
          have hG4 : gI (wI (wI (wI σ1 69206192 0 (dep + 1) (Int32.ofNat (k + nl r c k))) 70254768 0 (dep + 1) (Int32.ofNat (k + (nl r c k + 3) / 4 * 4))) 71303344 0 (dep + 1) G1) 71303344 0 (dep + 1) = G1 := by
            rw [gI_wI, if_pos ⟨rfl, rfl, rfl⟩]
          generalize wI (wI (wI σ1 69206192 0 (dep + 1) (Int32.ofNat (k + nl r c k))) 70254768 0 (dep + 1) (Int32.ofNat (k + (nl r c k + 3) / 4 * 4))) 71303344 0 (dep + 1) G1 = σ4 at *
          have hd14 : z_ed dep σ σ4 := ed_tr (ed_e9 he1) hd4 (Nat.le_refl _)
          refine wp_eq (e114_30 ..) ?_
          have hkp := tw_keep r c f (k + 8) (k + nl r c k) (dep + 1) G1 S1 (by omega) hS0
          subst hrr
          refine ml_att hc hP f (k + 8) (k + nl (vI A 64) c k) (dep + 1) G1 S1 σ4 Q (by omega) (by omega) (by omega) (by omega) (by omega) hS0 hM4 ((hd14.1 67 (by decide) (by decide)).trans hb) ((hd14.1 74 (by decide) (by decide)).trans hw) hs4 hE4 (fun h => ?_) ?_ ?_
          · have : dep = 0 := by omega
            subst this
            exact hG4
          · intro σ5 k5 hw5 hle5 hlt5 hM5 hd5 hs5
            have hd15 : z_ed dep σ σ5 := ed_tr hd14 hd5 (by omega)
            have hw50 : gI σ5 8 74 0 = 0 := (hd15.1 74 (by decide) (by decide)).trans hw
            have hE5 := (hd5.2 _ (.inl rfl) (dep + 1) (Nat.le_refl _)).trans hE4
            have hB5 := (hd5.2 _ (.inr (.inl rfl)) (dep + 1) (Nat.le_refl _)).trans hB4
            refine wp_eq (e114_1 ..) (wp_if (fun _ => ?_) (fun q => absurd hw50 q))
            refine wp_eq (e114_2 ..) (wp_if (fun _ => ?_) (fun q => ?_))
            rotate_left
            · rw [io_llt (by omega) (by decide)] at q
              exact absurd (show 0 < dep + 1 by omega) q
            refine wp_eq (e114_4 ..) (wp_ar (k := dep + 1) (rm_p85 hM5) aty_69206192 alen_69206192 rfl (by omega) (by decide) ?_)
            simp only [io_nat hi31]
            rw [hE5]
            refine wp_if (fun q => ?_) (fun _ => ?_)
            · rw [io_lt (by omega) (by omega)] at q
              omega
            refine wp_eq (e114_5 ..) (wp_ar (k := dep + 1) (rm_p86 hM5) aty_70254768 alen_70254768 rfl (by omega) (by decide) ?_)
            simp only [io_nat hi31]
            rw [hB5, show Int32.ofNat (dep + 1) + (-1 : Int32) = Int32.ofNat dep from io_pred (Nat.succ_le_succ (Nat.zero_le dep))]
            rw [if_neg (fun q => q hw5)] at base
            exact rest _ σ5 hn2 hn1 base (by rw [hkp.2 (by omega)]; omega) hkp.1 hM5 hd15 hs5
          · intro σ5 hw5 hM5 hh5 h74 h75 hs5
            rw [if_pos hw5] at base
            rw [base] at k1
            exact k1 σ5 hw5 hM5 (fun n a b => (hh5 n a b).trans (hd14.1 n a (by omega))) h74 h75 hs5
        · rw [if_neg h5] at base
          exact wp_eq (e114_29 ..) (wp_eq (e114_30 ..) (rest S1 σ1 hn2 hn1 base (by omega) hS0 hM1 (ed_e9 he1) hs1))
      have key14 : ∀ (x6 : Nat), x6 = fn_hs r c k → wp (E xP114 (zD (d + 3)) 14 [some (.inr (.inr (some (8, 0)))), some (.inl (Int32.ofNat dep)), some (.inl (Int32.ofNat k)), some (.inl (n4 r c k)), some (.inl (u8 r c (k + 4))), some (.inl (Int32.ofNat (nl r c k))), some (.inl (Int32.ofNat x6)), none, none, none] [.inl (fn_kd r c k)] σ) Q := by
        rintro x6 rfl
        refine wp_eq (e114_14 ..) ?_
        rw [io_add_l, io_div_l (by omega) (by decide), io_mul_l, io_add]
        refine wp_if (fun h => ?_) (fun h => ?_) <;> rw [io_lt (by omega) (by omega)] at h
        · exact w16 σ hM hs0' hs (by rw [tw_s, if_neg h1, if_neg h2, if_pos (.inl h)])
        refine wp_eq (e114_15 ..) (wp_ar (rm_p85 hM) aty_69206192 alen_69206192 rfl (by omega) (by decide) ?_)
        dsimp only
        rw [io_nat (by omega), hE, io_sub (show k ≤ e by omega)]
        refine wp_if (fun hn1 => ?_) (fun hn1 => ?_) <;> rw [io_le (by omega) (by omega)] at hn1
        rotate_left
        · exact w16 σ hM hs0' hs (by rw [tw_s, if_neg h1, if_neg h2, if_pos (.inr (by omega))])
        have h3 : ¬ (nl r c k < fn_hs r c k ∨ e - k < nl r c k) := by omega
        have hn8 : 8 ≤ nl r c k := by omega
        refine wp_eq (e114_17 ..) (wp_if (fun h31 => ?_) (fun h31 => ?_))
        rotate_left
        · exact wp_eq (e114_18 ..) (wp_cv (hkwr 3009 (n4 r c k) S (by rw [tw_s, if_neg h1, if_neg h2, if_neg h3, if_pos h31]) (by decide) σ hM hs0' hs _ (out _ _ 3009 (by decide))))
        have h4 : ¬ (u8 r c (k + 4) &&& 31 ≠ 0) := fun q => q h31
        refine wp_eq (e114_19 ..) (wp_if (fun hk => ?_) (fun hk => ?_))
        · have b0 : fn_tw r c (f + 1) k e dep G S = (if u8 r c (k + 4) &&& 64 ≠ 0 then ((5001, n4 r c k), S) else fn_tw r c f (k + (nl r c k + 3) / 4 * 4) e dep G S) := by rw [tw_s, if_neg h1, if_neg h2, if_neg h3, if_neg h4, if_pos hk]
          refine wp_eq (e114_20 ..) (wp_if (fun h64 => ?_) (fun h64 => ?_))
          · rw [if_neg (fun q => q h64)] at b0
            exact wp_eq (e114_22 ..) (wp_eq (e114_30 ..) (rest S σ hn8 (by omega) b0 (by omega) hs0 hM (ed_rf _ _) hs))
          · refine wp_eq (e114_21 ..) (wp_cv (hkwr 5001 (n4 r c k) S (by rw [b0, if_pos h64]) (by decide) σ hM hs0' hs _ fun σ'' h74 hq => wp_eq (e114_22 ..) (out _ _ 5001 (by decide) σ'' h74 hq)))
        have base := tw_s r c f k e dep G S
        rw [if_neg h1, if_neg h2, if_neg h3, if_neg h4, if_neg hk] at base
        refine wp_eq (e114_23 ..) (wp_cr (mw_size (d := d + 2) (n := nl r c k - 8) (io_sub hn8) (by omega) ⟨_, rfl, wp_asI0 ?_⟩))
        refine wp_if (fun q => ?_) (fun q => ?_) <;> rw [b2i_0] at q
        · exact w26 σ hM hs0' hs (by rw [base, if_pos (.inl q)])
        have f1 : fn_fits (fn_kd r c k) (nl r c k - 8) := Classical.not_not.mp q
        have go : ¬ (fn_kd r c k = 5 ∧ dep = 3) → wp (E xP114 (zD (d + 3)) 27 [some (.inr (.inr (some (8, 0)))), some (.inl (Int32.ofNat dep)), some (.inl (Int32.ofNat k)), some (.inl (n4 r c k)), none, some (.inl (Int32.ofNat (nl r c k))), none, some (.inl (fn_kd r c k)), some (.inl (Int32.ofNat (k + (nl r c k + 3) / 4 * 4))), none] [] σ) Q := by
          intro f2
          rw [if_neg (fun h => h.elim (fun h => h f1) f2)] at base
          exact key27 hk (by omega) hn8 f1 f2 base
        refine wp_eq (e114_24 ..) (wp_if (fun h5 => ?_) (fun h5 => ?_))
        · refine wp_eq (e114_25 ..) (wp_if (fun hd3 => ?_) (fun hd3 => ?_)) <;> rw [io_eq_l (by omega) (by decide)] at hd3
          · exact w26 σ hM hs0' hs (by rw [base, if_pos (.inr ⟨h5, hd3⟩)])
          · exact go (fun q => hd3 q.2)
        · exact go (fun q => h5 q.1)
      refine wp_if (fun h128 => ?_) (fun h128 => ?_)
      · have ekd : fn_kd r c k = fn_kind (n4 r c k) := by unfold fn_kd; rw [if_pos h128]
        rw [ekd] at key14
        refine wp_eq (e114_10 ..) (wp_eq (e114_11 ..) (wp_if (fun _ => wp_eq (e114_13 ..) (wp_cr (mw_sort (d := d + 2) ⟨_, rfl, key14 8 ?_⟩))) (fun q => absurd h128 q)))
        unfold fn_hs
        rw [if_pos h128]
      · have ekd : fn_kd r c k = 0 := by unfold fn_kd; rw [if_neg h128]
        rw [ekd] at key14
        refine wp_eq (e114_9 ..) (wp_eq (e114_11 ..) (wp_if (fun q => absurd q h128) (fun _ => wp_eq (e114_12 ..) (key14 12 ?_))))
        unfold fn_hs
        rw [if_neg h128]
    refine wp_eq (e114_1 ..) (wp_if (fun _ => wp_eq (e114_2 ..) (wp_if (fun _ => k4) (fun h0 => ?_))) (fun q => absurd hw q))
    rw [io_llt (by omega) (by decide)] at h0
    have h0 : dep = 0 := by
      have : ¬ 0 < dep := h0
      omega
    subst h0
    refine wp_eq (e114_3 ..) (wp_ar (k := 0) (rm_p85 hM) aty_69206192 alen_69206192 rfl (by decide) (by decide) ?_)
    dsimp only
    rw [show (0 : Int32).toNatClampNeg = 0 from by decide, hE]
    exact wp_if (fun h => absurd ((io_le (show e < 2147483648 by omega) (show k < 2147483648 by omega)) ▸ h) (by omega)) (fun _ => k4)
