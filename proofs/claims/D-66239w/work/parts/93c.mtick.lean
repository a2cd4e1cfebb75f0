/-! PART 93c (src 93c.mtick.src): the twin's clock goes on -/
set_option maxHeartbeats 800000
set_option maxRecDepth 20000
theorem M_rem {T σ : z_St} {B : w_A} {s : Nat} (h : w_M T σ (fn_remove B s)) (hs : s < vN B 2 0) (hg : ∀ r, r < 16 → ¬ vN B 16 0 = r + 1) : w_M T σ (fn_remove (sJ B 5 s 0) s) := by
  obtain ⟨hT, hA, hB, hC, hD, hG, hH, hI, hJ, hK, hL, hM, hN⟩ := h
  refine ⟨hT, hA, hB, hC, hD, hG, hH, hI, ⟨hJ.1, fun r hr => ?_⟩, hK, hL, hM, ⟨hN.1, fun r hr e => absurd e (hg r hr)⟩⟩
  have hr' : r < vN B 2 0 - 1 := hr
  obtain ⟨h1, h2, h3, h4, h5, h6, h7, h8⟩ := hJ.2 r hr'
  refine ⟨?_, h2, h3, h4, h5, h6, h7, h8⟩
  have h1 : gJ σ 45089299 0 r = fn_out (vN B 2 0) s (vJ B 5) r := h1
  show gJ σ 45089299 0 r = fn_out (vN B 2 0) s (vJ (sJ B 5 s 0) 5) r
  rw [h1]
  unfold fn_out
  by_cases e : s ≤ r ∧ r + 1 < vN B 2 0
  · rw [if_pos e, if_pos e, vJ_sJ, if_neg (fun g => by omega)]
  · rw [if_neg e, if_neg e, vJ_sJ, if_neg (fun g => by omega)]
theorem settle_0 {A : w_A} {s a : Nat} (h : 0 ≤ (vJ A 5 s).toInt) (ha : vN A 13 s - 1 = a) : fn_settle A s 0 = sJ (sJ A 2 a (vJ A 2 a - vJ A 5 s)) 5 s 0 := by
  have e : (if vJ A 5 s < 0 then vJ A 5 s else 0) = 0 := by
    rw [if_neg]
    rw [i64_lt]
    have : (0 : Int64).toInt = 0 := rfl
    omega
  unfold fn_settle
  dsimp only
  rw [e, ha]
  have e1 : vJ A 1 a - 0 = vJ A 1 a := by simp
  have e2 : vJ A 3 a + 0 = vJ A 3 a := by simp
  rw [e1, e2, sJ_id A rfl, sJ_id A rfl]
theorem ml_sts {T : z_St} {d t : Nat} {x1 : Int32} {Q : z_St → Option z_V → Prop} : ∀ (f s n dn : Nat) (A : w_A) (σ : z_St), s + f = vN A 2 0 → t + 1 = vN A 5 0 → w_M T σ A → z_C n A → z_tm A → z_sx t s A → (∀ σ, w_M T σ (fn_sts f s A dn).1 → wp (E xP171 (zD (d + 9)) 22 [some (.inr (.inr (some (8, 0)))), some (.inl x1), some (.inl (Int32.ofNat (fn_sts f s A dn).2)), none, none] [] σ) Q) →
    wp (E xP171 (zD (d + 9)) 18 [some (.inr (.inr (some (8, 0)))), some (.inl x1), some (.inl (Int32.ofNat dn)), some (.inl (Int32.ofNat s)), none] [] σ) Q
  | 0, s, n, dn, A, σ, hf, ht, hM, hC, htm, hx, k => by
    have h16 := hC.1.1.1.2.2.1
    refine wp_eq (e171_18 ..) (wp_if (fun h => ?_) (fun h => ?_)) <;> rw [rm_SESS hM, io_le (by omega) (by omega)] at h
    · exact k σ hM
    · omega
  | f + 1, s, n, dn, A, σ, hf, ht, hM, hC, htm, hx, k => by
    have h16 := hC.1.1.1.2.2.1
    have hnow := hC.1.1.1.2.2.2.2.2
    have hs : s < vN A 2 0 := by omega
    have hs31 : s < 2147483648 := by omega
    rw [sts_s] at k
    refine wp_eq (e171_18 ..) (wp_if (fun h => ?_) (fun h => ?_)) <;> rw [rm_SESS hM, io_le (by omega) (by omega)] at h
    · omega
    have hx' := hx
    obtain ⟨x1_, x2_, x3_, x4_, x5_, x6_, x7_, x8_, x9_⟩ := hx'
    obtain ⟨q1, q2, q3, -, e, e1, e2, e3⟩ := x1_ s hs
    have q1 : 1 ≤ vN A 13 s := q1
    have q2 : vN A 13 s ≤ vN A 1 0 := q2
    have q3 : 0 ≤ (vJ A 5 s).toInt := q3
    have e1 : vI A 21 s = Int32.ofNat e := e1
    have e2 : t < e := e2
    have e3 : e ≤ t + 600 := e3
    have hac := hC.1.1.1.2.1
    refine wp_eq (e171_19 ..) (wp_ar (rm_p48 hM) aty_48235024 alen_48235024 rfl (by omega) (by decide) ?_)
    dsimp only
    rw [io_nat hs31, rm_NOW hM, rm_SEND hM hs, e1]
    have hc : (vI A 21 s = Int32.ofNat (vN A 5 0)) = (e = vN A 5 0) := by rw [e1, io_inj (by omega) (by omega)]
    refine wp_if (fun h => ?_) (fun h => ?_) <;> rw [io_lt (by omega) (by omega)] at h
    · have hne : ¬ e = vN A 5 0 := by omega
      rw [if_neg (by rw [hc]; exact hne)] at k
      refine wp_eq (e171_21 ..) ?_
      rw [io_add_l]
      refine ml_sts f (s + 1) n dn A σ (by omega) ht hM hC htm ⟨x1_, x2_, x3_, x4_, x5_, x6_, x7_, x8_, fun r hr hr2 => ?_⟩ k
      by_cases er : r = s
      · rw [er, e1, io_inj (by omega) (by omega)]; exact hne
      · exact x9_ r (by omega) hr2
    · have hee : e = vN A 5 0 := by omega
      rw [if_pos (by rw [hc]; exact hee)] at k
      obtain ⟨a, haa⟩ : ∃ a, a = vN A 13 s - 1 := ⟨_, rfl⟩
      have ha31 : a < 2147483648 := by omega
      have ha16 : a < 16 := by omega
      have rac := rm_SACC hM hs
      rw [← haa] at rac
      have hix : gI σ 44040720 0 (Int32.toNatClampNeg (Int32.ofNat s)) = Int32.ofNat a := by rw [io_nat hs31]; exact rac
      refine wp_eq (e171_20 ..) (wp_ar (rm_p44 hM) aty_44040720 alen_44040720 rfl (by omega) (by decide) (wp_ar (rm_p38 hM) aty_38797843 alen_38797843 hix (by omega) (by decide) (wp_ar (rm_p45 hM) aty_45089299 alen_45089299 rfl (by omega) (by decide) (wp_ar (rm_p38 hM) aty_38797843 alen_38797843 hix (by omega) (by decide) ?_))))
      dsimp only
      rw [io_nat hs31, rac, io_nat ha31, rm_ARES hM, rm_SGRANT hM hs]
      refine wp_swM (wm_ARES hM a _) fun σ hM => ?_
      have hsB : s < vN (sJ A 2 a (vJ A 2 a - vJ A 5 s)) 2 0 := hs
      have hgB : ∀ r, r < 16 → ¬ vN (sJ A 2 a (vJ A 2 a - vJ A 5 s)) 16 0 = r + 1 := x8_
      refine wp_cv (mc_forget (d := d + 7) hM hsB h16 x3_ hgB fun σ hM => ⟨rfl, ?_⟩)
      have hM := M_rem hM hsB hgB
      rw [← settle_0 q3 haa.symm] at hM
      rw [io_add_l]
      exact ml_sts f s n (dn + 1) (fn_go A s) σ (by show s + f = vN A 2 0 - 1; omega) ht hM (C_go hC hs) (tm_cf htm (go_cf A s)) (sx_go hx hs) k
theorem ml_tick {T : z_St} {d : Nat} {Q : z_St → Option z_V → Prop} : ∀ (f n dn m : Nat) (A : w_A) (σ : z_St), vN A 5 0 + f = m → m ≤ 200000 → w_M T σ A → z_W n A → n + 512 * f < 2147483648 → (∀ σ, w_M T σ (fn_tick f A dn).1 → Q σ (some (.inl (Int32.ofNat (fn_tick f A dn).2)))) →
    wp (E xP171 (zD (d + 9)) 4 [some (.inr (.inr (some (8, 0)))), some (.inl (Int32.ofNat m)), some (.inl (Int32.ofNat dn)), none, none] [] σ) Q
  | 0, n, dn, m, A, σ, hf, hm, hM, hW, hn, k => by
    refine wp_eq (e171_4 ..) (wp_if (fun h => ?_) (fun h => ?_)) <;> rw [rm_NOW hM, io_le (by omega) (by omega)] at h
    · exact wp_eq (e171_23 ..) (wp_ret (k σ hM))
    · omega
  | f + 1, n, dn, m, A, σ, hf, hm, hM, hW, hn, k => by
    refine wp_eq (e171_4 ..) (wp_if (fun h => ?_) (fun h => ?_)) <;> rw [rm_NOW hM, io_le (by omega) (by omega)] at h
    · omega
    rw [tick_s] at k
    obtain ⟨a1, a2, a3, a4⟩ := sec_pts hW (by omega) (by omega)
    obtain ⟨w1, w2, w3⟩ := W_sec hW (by omega) (by omega)
    have hsd := sec_d A
    have hp4 : vN (fn_nx A) 0 0 ≤ 4 := hW.1.1.1.1.1
    have hpn : vN (fn_pts (vN (fn_nx A) 0 0) 0 (fn_nx A) 0).1 5 0 = vN A 5 0 + 1 := a4.2.2.2.1 _ _ (.inl (by decide))
    refine wp_eq (e171_5 ..) ?_
    rw [rm_NOW hM, io_add_l]
    refine wp_swM (A := fn_nx A) (wm_NOW hM _) fun σ hM => ml_peers (vN (fn_nx A) 0 0) 0 n dn (fn_nx A) σ (Nat.zero_add _) hM (C_nx hW.1 (by omega)) (tbd_nx hW.2.1) (tq_nx hW.2.1) (by omega) fun σ hM => wp_eq (e171_17 ..) ?_
    rw [pts_d] at hM ⊢
    generalize fn_pts (vN (fn_nx A) 0 0) 0 (fn_nx A) 0 = r at *
    dsimp only at hM ⊢
    refine ml_sts (t := vN A 5 0) (vN r.1 2 0) 0 (n + 512) (dn + r.2) r.1 σ (Nat.zero_add _) (by rw [hpn]) hM a1 a2 a3 fun σ hM => wp_eq (e171_22 ..) ?_
    rw [sts_d] at hM ⊢
    dsimp only at hM ⊢
    have e1 : (fn_sec A).1 = (fn_sts (vN r.1 2 0) 0 r.1 0).1 := by rw [hsd]
    have e2 : dn + r.2 + (fn_sts (vN r.1 2 0) 0 r.1 0).2 = dn + (fn_sec A).2 := by rw [hsd]; show _ = dn + (r.2 + _); omega
    rw [e2]
    rw [← e1] at hM
    exact ml_tick f (n + 512) _ m _ σ (by rw [w2]; omega) hm hM w1 (by omega) k
theorem mc_tick {T σ : z_St} {A : w_A} (hM : w_M T σ A) {n : Nat} (hW : z_W n A) (hN : vN A 5 0 + 2000 ≤ 200000) (hn : n + 1024000 < 2147483648) {d : Nat} {x : Int32} {Q : z_St → Option z_V → Prop} (k : ∀ σ v, w_M T σ (fn_cTick A x).1 → v = some (.inl (fn_cTick A x).2) → Q σ v) : wp (zD (d + 10) 171 [.inr (.inr (some (8, 0))), .inl x] σ) Q := by
  unfold fn_cTick at k
  refine wp_eq (c171 ..) (wp_eq (e171_0 ..) (wp_swM (wm_code hM _) fun σ hM => wp_if (fun h => ?_) (fun h0 => ?_)))
  · rw [rm_NOW hM] at h
    rw [if_pos (.inl h)] at k
    exact wp_eq (e171_2 ..) (wp_ret (k _ _ hM rfl))
  rw [rm_NOW hM] at h0
  refine wp_eq (e171_1 ..) (wp_if (fun h1 => ?_) (fun h1 => ?_)) <;> rw [rm_NOW hM] at h1
  rotate_left
  · rw [if_pos (.inr h1)] at k
    exact wp_eq (e171_2 ..) (wp_ret (k _ _ hM rfl))
  rw [if_neg (fun g => g.elim h0 (fun g => g h1))] at k
  obtain ⟨m, rfl, m1, m2, m3⟩ := tk_in (by omega) h0 h1
  rw [m3] at k
  exact wp_eq (e171_3 ..) (ml_tick (m - vN A 5 0) n 0 m A σ (by omega) (by omega) hM hW (by omega) fun σ hM => k σ _ hM rfl)
