/-! PART 94f (src 94f.mpeer.src): a peer is made: the twin -/
set_option maxHeartbeats 400000
theorem ml_ch {T σ : z_St} {A : w_A} (hM : w_M T σ A) {n : Nat} (hB : z_B n A) (hlm : (vL A 0 0).length = (vL A 1 0).length) {d : Nat} {x : Int32} {Q : z_St → Option z_V → Prop} (k : ∀ y : Int32, (y = 0 ∧ ¬ vL A 0 0 = vL A 1 0 ∨ y = 1 ∧ vL A 0 0 = vL A 1 0) → wp (E xP89 (zD d) 12 [some (.inr (.inr (some (8, 0)))), some (.inl x), some (.inl y), none, none, none] [] σ) Q) : ∀ (r i : Nat), i + r = (vL A 0 0).length → (vL A 0 0 = vL A 1 0 ↔ (vL A 0 0).drop i = (vL A 1 0).drop i) →
    wp (E xP89 (zD d) 6 [some (.inr (.inr (some (8, 0)))), some (.inl x), some (.inl 1), some (.inl (Int32.ofNat i)), none, none] [] σ) Q
  | 0, i, hi, he => by
    have h40 := hB.2.2.2.2.2.2.1.1
    have h4 : gI σ 8 4 0 = Int32.ofNat (vL A 0 0).length := hM.2.2.2.2.2.1.1
    refine wp_eq (e89_6 ..) ?_
    rw [h4]
    refine wp_if (fun h => ?_) (fun h => ?_) <;> rw [io_le (by omega) (by omega)] at h
    · exact k 1 (.inr ⟨rfl, he.mpr (by rw [List.drop_of_length_le (by omega), List.drop_of_length_le (by omega)])⟩)
    · omega
  | r + 1, i, hi, he => by
    have h40 := hB.2.2.2.2.2.2.1.1
    have hG := hM.2.2.2.2.2.1
    have h4 : gI σ 8 4 0 = Int32.ofNat (vL A 0 0).length := hG.1
    have hil : i < (vL A 0 0).length := by omega
    have him : i < (vL A 1 0).length := by omega
    have r1 := hG.2.1 i hil
    have r2 := hG.2.2.2.1 i him
    rw [Nat.zero_add] at r1 r2
    refine wp_eq (e89_6 ..) ?_
    rw [h4]
    refine wp_if (fun h => ?_) (fun h => ?_) <;> rw [io_le (by omega) (by omega)] at h
    · omega
    refine wp_eq (e89_7 ..) (wp_if (fun g => absurd g (by decide)) (fun _ => ?_))
    refine wp_eq (e89_8 ..) (wp_ar (k := i) (rm_p3 hM) aty_7341329 alen_7341329 rfl (by omega) (by decide) (wp_ar (k := i) (rm_p5 hM) aty_8389905 alen_8389905 rfl (by omega) (by decide) ?_))
    dsimp only
    rw [io_nat (by omega), r1, r2]
    rw [List.drop_eq_getElem_cons hil, List.drop_eq_getElem_cons him] at he
    refine wp_if (fun g => ?_) (fun g => ?_)
    · refine wp_eq (e89_9 ..) (wp_eq (e89_11 ..) ?_)
      rw [io_add_l]
      refine ml_ch hM hB hlm k r (i + 1) (by omega) (he.trans ?_)
      rw [g]
      exact ⟨fun q => (List.cons.inj q).2, fun q => by rw [q]⟩
    · have ne : ¬ vL A 0 0 = vL A 1 0 := fun q => g (List.cons.inj (he.mp q)).1
      refine wp_eq (e89_10 ..) (wp_eq (e89_11 ..) (wp_eq (e89_6 ..) ?_))
      exact wp_if (fun _ => k 0 (.inl ⟨rfl, ne⟩)) (fun _ => wp_eq (e89_7 ..) (wp_if (fun _ => k 0 (.inl ⟨rfl, ne⟩)) (fun g => absurd rfl g)))
theorem ml_cp {T σ : z_St} {A : w_A} (hM : w_M T σ A) {n : Nat} (hB : z_B n A) {p : Nat} (hp : p < 4) (hlm : (vL A 0 0).length = (vL A 2 p).length) {d : Nat} {x y : Int32} {Q : z_St → Option z_V → Prop} (k : ∀ z : Int32, (z = 0 ∧ ¬ vL A 0 0 = vL A 2 p ∨ z = 1 ∧ vL A 0 0 = vL A 2 p) → wp (E xP89 (zD d) 24 [some (.inr (.inr (some (8, 0)))), some (.inl x), some (.inl y), some (.inl (Int32.ofNat p)), some (.inl z), none] [] σ) Q) : ∀ (r i : Nat), i + r = (vL A 0 0).length → (vL A 0 0 = vL A 2 p ↔ (vL A 0 0).drop i = (vL A 2 p).drop i) →
    wp (E xP89 (zD d) 18 [some (.inr (.inr (some (8, 0)))), some (.inl x), some (.inl y), some (.inl (Int32.ofNat p)), some (.inl 1), some (.inl (Int32.ofNat i))] [] σ) Q
  | 0, i, hi, he => by
    have h40 := hB.2.2.2.2.2.2.1.1
    have h4 : gI σ 8 4 0 = Int32.ofNat (vL A 0 0).length := hM.2.2.2.2.2.1.1
    refine wp_eq (e89_18 ..) ?_
    rw [h4]
    refine wp_if (fun h => ?_) (fun h => ?_) <;> rw [io_le (by omega) (by omega)] at h
    · exact k 1 (.inr ⟨rfl, he.mpr (by rw [List.drop_of_length_le (by omega), List.drop_of_length_le (by omega)])⟩)
    · omega
  | r + 1, i, hi, he => by
    have h40 := hB.2.2.2.2.2.2.1.1
    have hG := hM.2.2.2.2.2.1
    have h4 : gI σ 8 4 0 = Int32.ofNat (vL A 0 0).length := hG.1
    have hil : i < (vL A 0 0).length := by omega
    have him : i < (vL A 2 p).length := by omega
    have r1 := hG.2.1 i hil
    have r2 := (hG.2.2.2.2.1 p hp).2 i him
    rw [Nat.zero_add] at r1
    have ei : (40 : Int32) * Int32.ofNat p + Int32.ofNat i = Int32.ofNat (40 * p + i) := by rw [show (40 : Int32) * Int32.ofNat p = Int32.ofNat (40 * p) from io_mul 40 p, io_add]
    refine wp_eq (e89_18 ..) ?_
    rw [h4]
    refine wp_if (fun h => ?_) (fun h => ?_) <;> rw [io_le (by omega) (by omega)] at h
    · omega
    refine wp_eq (e89_19 ..) (wp_if (fun g => absurd g (by decide)) (fun _ => ?_))
    refine wp_eq (e89_20 ..) (wp_ar (k := 40 * p + i) (rm_p8 hM) aty_9442321 alen_9442321 ei (by omega) (by decide) (wp_ar (k := i) (rm_p3 hM) aty_7341329 alen_7341329 rfl (by omega) (by decide) ?_))
    dsimp only
    rw [ei, io_nat (by omega), io_nat (by omega), r1, r2]
    rw [List.drop_eq_getElem_cons hil, List.drop_eq_getElem_cons him] at he
    refine wp_if (fun g => ?_) (fun g => ?_)
    · refine wp_eq (e89_21 ..) (wp_eq (e89_23 ..) ?_)
      rw [io_add_l]
      refine ml_cp hM hB hp hlm k r (i + 1) (by omega) (he.trans ?_)
      rw [g]
      exact ⟨fun q => (List.cons.inj q).2, fun q => by rw [q]⟩
    · have ne : ¬ vL A 0 0 = vL A 2 p := fun q => g (List.cons.inj (he.mp q)).1.symm
      refine wp_eq (e89_22 ..) (wp_eq (e89_23 ..) (wp_eq (e89_18 ..) ?_))
      exact wp_if (fun _ => k 0 (.inl ⟨rfl, ne⟩)) (fun _ => wp_eq (e89_19 ..) (wp_if (fun _ => k 0 (.inl ⟨rfl, ne⟩)) (fun g => absurd rfl g)))
theorem ml_peer {T σ : z_St} {A : w_A} (hM : w_M T σ A) {n : Nat} (hB : z_B n A) {d : Nat} {x : Int32} {Q : z_St → Option z_V → Prop} (k : ∀ y : Int32, (y = 0 ↔ ¬ fn_kn A (vN A 0 0)) → wp (E xP89 (zD d) 29 [some (.inr (.inr (some (8, 0)))), some (.inl x), some (.inl y), none, none, none] [] σ) Q) : ∀ (r p : Nat) (y : Int32), p + r = vN A 0 0 → (y = 0 ∧ ¬ fn_kn A p ∨ y = 1 ∧ fn_kn A p) →
    wp (E xP89 (zD d) 13 [some (.inr (.inr (some (8, 0)))), some (.inl x), some (.inl y), some (.inl (Int32.ofNat p)), none, none] [] σ) Q
  | 0, p, y, hp, hy => by
    have hb := hB.1
    refine wp_eq (e89_13 ..) ?_
    rw [rm_PEERS hM]
    refine wp_if (fun h => ?_) (fun h => ?_) <;> rw [io_le (by omega) (by omega)] at h
    · have : p = vN A 0 0 := by omega
      rw [this] at hy
      refine k y ?_
      rcases hy with ⟨h1, h2⟩ | ⟨h1, h2⟩
      · exact ⟨fun _ => h2, fun _ => h1⟩
      · exact ⟨fun g => by rw [h1] at g; exact absurd g (by decide), fun g => absurd h2 g⟩
    · omega
  | r + 1, p, y, hp, hy => by
    have hb := hB.1
    have hp4 : p < 4 := by omega
    have h40 := hB.2.2.2.2.2.2.1.1
    have hp40 := (hB.2.2.2.2.2.2.2.2.1 p).1
    have hG := hM.2.2.2.2.2.1
    have h4 : gI σ 8 4 0 = Int32.ofNat (vL A 0 0).length := hG.1
    have hsz := (hG.2.2.2.2.1 p hp4).1
    refine wp_eq (e89_13 ..) ?_
    rw [rm_PEERS hM]
    refine wp_if (fun h => ?_) (fun h => ?_) <;> rw [io_le (by omega) (by omega)] at h
    · omega
    have k24 : ∀ z : Int32, (z = 0 ∧ ¬ vL A 0 0 = vL A 2 p ∨ z = 1 ∧ vL A 0 0 = vL A 2 p) → wp (E xP89 (zD d) 24 [some (.inr (.inr (some (8, 0)))), some (.inl x), some (.inl y), some (.inl (Int32.ofNat p)), some (.inl z), none] [] σ) Q := by
      intro z hz
      have k13 : ∀ w : Int32, (w = 0 ∧ ¬ fn_kn A (p + 1) ∨ w = 1 ∧ fn_kn A (p + 1)) → wp (E xP89 (zD d) 28 [some (.inr (.inr (some (8, 0)))), some (.inl x), none, some (.inl (Int32.ofNat p)), none, none] [.inl w] σ) Q := by
        intro w hw
        refine wp_eq (e89_28 ..) ?_
        rw [io_add_l]
        exact ml_peer hM hB k r (p + 1) w (by omega) hw
      refine wp_eq (e89_24 ..) (wp_if (fun g => ?_) (fun g => ?_))
      · have hn : ¬ fn_kn A p := by
          rcases hy with ⟨h1, h2⟩ | ⟨h1, h2⟩
          · exact h2
          · rw [h1] at g; exact absurd g (by decide)
        refine wp_eq (e89_25 ..) (wp_if (fun g2 => ?_) (fun g2 => ?_))
        · refine wp_eq (e89_27 ..) (k13 0 (.inl ⟨rfl, fun q => (kn_s.mp q).elim hn fun q2 => ?_⟩))
          rcases hz with ⟨h1, h2⟩ | ⟨h1, h2⟩
          · exact h2 q2
          · rw [h1] at g2; exact absurd g2 (by decide)
        · refine wp_eq (e89_26 ..) (k13 1 (.inr ⟨rfl, kn_s.mpr (.inr ?_)⟩))
          rcases hz with ⟨h1, h2⟩ | ⟨h1, h2⟩
          · exact absurd h1 g2
          · exact h2
      · refine wp_eq (e89_26 ..) (k13 1 (.inr ⟨rfl, kn_s.mpr (.inl ?_)⟩))
        rcases hy with ⟨h1, h2⟩ | ⟨h1, h2⟩
        · exact absurd h1 g
        · exact h2
    refine wp_eq (e89_14 ..) (wp_ar (k := p) (rm_p9 hM) aty_10485904 alen_10485904 rfl (by omega) (by decide) ?_)
    dsimp only
    rw [io_nat (by omega), hsz, h4]
    refine wp_if (fun g => ?_) (fun g => ?_) <;> rw [io_inj (by omega) (by omega)] at g
    · exact wp_eq (e89_15 ..) (wp_eq (e89_17 ..) (ml_cp hM hB hp4 g.symm k24 (vL A 0 0).length 0 (Nat.zero_add _) (by rw [List.drop_zero, List.drop_zero])))
    · have ne : ¬ vL A 0 0 = vL A 2 p := fun q => g (by rw [q])
      refine wp_eq (e89_16 ..) (wp_eq (e89_17 ..) (wp_eq (e89_18 ..) ?_))
      exact wp_if (fun _ => k24 0 (.inl ⟨rfl, ne⟩)) (fun _ => wp_eq (e89_19 ..) (wp_if (fun _ => k24 0 (.inl ⟨rfl, ne⟩)) (fun g => absurd rfl g)))
theorem wm_PNAME {T σ : z_St} {A : w_A} (h : w_M T σ A) {p : Nat} (hz : ∀ r, (vL A 2 r).length ≤ 40) {l : List Int32} (hl : l.length ≤ 40) {f : Nat → Int32} (hk : ∀ k, (e : k < l.length) → f (40 * p + k) = l[k]) (ho : ∀ i, ¬ (40 * p ≤ i ∧ i < 40 * p + 40) → f i = gI σ 9442321 0 i) : w_M T (wI (rI σ 9442321 0 f) 10485904 0 p (Int32.ofNat l.length)) (sL A 2 p l) := by
  obtain ⟨hT, hA, hB, hC, hD, hG, hH, hI, hJ, hK, hL, hM, hN⟩ := h
  obtain ⟨g1, g2, g3, g4, g5, g6⟩ := hG
  refine ⟨m_T_wI (m_T_rI hT (z_isM_yes _ rfl)) (z_isM_yes _ rfl), hA, hB, hC, hD, ⟨g1, g2, g3, g4, fun q hq => ?_, g6⟩, hH, hI, hJ, hK, hL, hM, hN⟩
  obtain ⟨q1, q2⟩ := g5 q hq
  rw [vL_sL]
  by_cases e : q = p
  · subst e
    rw [if_pos ⟨rfl, rfl⟩]
    refine ⟨by rw [gI_wI, if_pos ⟨rfl, rfl, rfl⟩], fun k hk2 => ?_⟩
    rw [gI_wI, if_neg (fun g => absurd g.1 (by decide)), hI_rI, if_pos ⟨rfl, rfl⟩]
    exact hk k hk2
  · rw [if_neg (fun g => e g.2)]
    have hq40 := hz q
    refine ⟨by rw [gI_wI, if_neg (fun g => e g.2.2)]; exact q1, fun k hk2 => ?_⟩
    rw [gI_wI, if_neg (fun g => absurd g.1 (by decide)), hI_rI, if_pos ⟨rfl, rfl⟩, ho _ (by omega)]
    exact q2 k hk2
theorem ml_pn {σ : z_St} {d n L : Nat} {x : Int32} (hn : n < 4) (hL : L ≤ 40) (h4 : gI σ 8 4 0 = Int32.ofNat L) (h7 : gI σ 8 7 0 = Int32.ofNat n) (hp : gR σ 8 3 0 = some (7341329, 0)) (hp2 : gR σ 8 8 0 = some (9442321, 0)) {Q : z_St → Option z_V → Prop} (k : wp (E xP89 (zD d) 36 [some (.inr (.inr (some (8, 0)))), some (.inl x), none, none, none, none] [] (rI σ 9442321 0 (fn_cp (gI σ 7341329 0) 0 (40 * n) (gI σ 9442321 0) L))) Q) : ∀ (m j : Nat), j + m = L →
    wp (E xP89 (zD d) 34 [some (.inr (.inr (some (8, 0)))), some (.inl x), none, some (.inl (Int32.ofNat j)), none, none] [] (rI σ 9442321 0 (fn_cp (gI σ 7341329 0) 0 (40 * n) (gI σ 9442321 0) j))) Q
  | 0, j, hj => by
    have e4 : gI (rI σ 9442321 0 (fn_cp (gI σ 7341329 0) 0 (40 * n) (gI σ 9442321 0) j)) 8 4 0 = Int32.ofNat L := h4
    have : j = L := by omega
    subst this
    refine wp_eq (e89_34 ..) ?_
    rw [e4]
    exact wp_if (fun _ => k) (fun h => by rw [io_le (by omega) (by omega)] at h; omega)
  | m + 1, j, hj => by
    have e4 : gI (rI σ 9442321 0 (fn_cp (gI σ 7341329 0) 0 (40 * n) (gI σ 9442321 0) j)) 8 4 0 = Int32.ofNat L := h4
    have e7 : gI (rI σ 9442321 0 (fn_cp (gI σ 7341329 0) 0 (40 * n) (gI σ 9442321 0) j)) 8 7 0 = Int32.ofNat n := h7
    have er : gI (rI σ 9442321 0 (fn_cp (gI σ 7341329 0) 0 (40 * n) (gI σ 9442321 0) j)) 7341329 0 j = gI σ 7341329 0 (0 + j) := by rw [hI_rI, if_neg (fun q => absurd q.1 (by decide)), Nat.zero_add]
    have ei : (40 : Int32) * Int32.ofNat n + Int32.ofNat j = Int32.ofNat (40 * n + j) := by rw [show (40 : Int32) * Int32.ofNat n = Int32.ofNat (40 * n) from io_mul 40 n, io_add]
    refine wp_eq (e89_34 ..) ?_
    rw [e4]
    refine wp_if (fun h => by rw [io_le (by omega) (by omega)] at h; omega) (fun _ => ?_)
    refine wp_eq (e89_35 ..) (wp_ar (k := j) hp aty_7341329 alen_7341329 rfl (by omega) (by decide) ?_)
    simp only [e7, ei]
    refine (wp_ar (k := 40 * n + j) hp2 aty_9442321 alen_9442321 rfl (by omega) (by decide) ?_)
    rw [io_nat (by omega), io_nat (by omega), nb_un, io_add_l]
    dsimp only
    rw [er, wI_rI, cp_s]
    exact wp_sw (ml_pn hn hL h4 h7 hp hp2 k m (j + 1) (by omega))
theorem mc_peer {T σ : z_St} {A : w_A} (hM : w_M T σ A) {n : Nat} (hB : z_B n A) {d : Nat} {x : Int32} (hx : x = 0 ∨ x = 1) {Q : z_St → Option z_V → Prop} (k : ∀ σ v, w_M T σ (fn_cPeer A x).1 → v = some (.inl (fn_cPeer A x).2) → Q σ v) : wp (zD (d + 1) 89 [.inr (.inr (some (8, 0))), .inl x] σ) Q := by
  have hb := hB.1
  have h40 := hB.2.2.2.2.2.2.1
  have h40l := h40.1
  have hh40 := hB.2.2.2.2.2.2.2.1.1
  unfold fn_cPeer at k
  refine wp_eq (c89 ..) (wp_eq (e89_0 ..) (wp_swM (wm_code hM _) fun σ hM => ?_))
  have hG := hM.2.2.2.2.2.1
  have h4 : gI σ 8 4 0 = Int32.ofNat (vL A 0 0).length := hG.1
  have h6 : gI σ 8 6 0 = Int32.ofNat (vL A 1 0).length := hG.2.2.1
  rw [h4]
  refine wp_if (fun h => ?_) (fun h => ?_) <;> rw [show (0 : Int32) = Int32.ofNat 0 from rfl, io_inj (by omega) (by omega)] at h
  · rw [if_pos h] at k
    exact wp_eq (e89_1 ..) (wp_ret (k _ _ hM rfl))
  rw [if_neg h] at k
  have k12 : ∀ y : Int32, (y = 0 ∧ ¬ vL A 0 0 = vL A 1 0 ∨ y = 1 ∧ vL A 0 0 = vL A 1 0) → wp (E xP89 (zD d) 12 [some (.inr (.inr (some (8, 0)))), some (.inl x), some (.inl y), none, none, none] [] σ) Q := by
    intro y hy
    refine wp_eq (e89_12 ..) (ml_peer hM hB (fun y hy => ?_) (vN A 0 0) 0 y (Nat.zero_add _) ?_)
    rotate_left
    · rcases hy with ⟨h1, h2⟩ | ⟨h1, h2⟩
      · exact .inl ⟨h1, fun g => g.elim h2 (fun ⟨p, h1, _⟩ => absurd h1 (Nat.not_lt_zero p))⟩
      · exact .inr ⟨h1, .inl h2⟩
    refine wp_eq (e89_29 ..) (wp_if (fun h => ?_) (fun h => ?_))
    rotate_left
    · have hk : fn_kn A (vN A 0 0) := Classical.byContradiction fun g => h (hy.mpr g)
      rw [if_pos (@decide_eq_true _ (fn_knD _ _) hk)] at k
      exact wp_eq (e89_30 ..) (wp_ret (k _ _ hM rfl))
    have hk := hy.mp h
    rw [if_neg (fun g => hk (@of_decide_eq_true _ (fn_knD _ _) g))] at k
    refine wp_eq (e89_31 ..) ?_
    rw [rm_PEERS hM]
    refine wp_if (fun h => ?_) (fun h => ?_) <;> rw [show (4 : Int32) = Int32.ofNat 4 from rfl, io_inj (by omega) (by omega)] at h
    · rw [if_pos h] at k
      exact wp_eq (e89_32 ..) (wp_ret (k _ _ hM rfl))
    rw [if_neg h] at k
    obtain ⟨m, hm⟩ : ∃ m, m = vN A 0 0 := ⟨_, rfl⟩
    rw [← hm] at k
    have h7 : gI σ 8 7 0 = Int32.ofNat m := (rm_PEERS hM).trans (by rw [hm])
    have key := ml_pn (d := d) (x := x) (n := m) (by omega) h40.1 h4 h7 (rm_p3 hM) (rm_p8 hM) (Q := Q) ?_ (vL A 0 0).length 0 (Nat.zero_add _)
    · rw [cp_0, rI_id] at key
      exact wp_eq (e89_33 ..) key
    have h7' : gI (rI σ 9442321 0 (fn_cp (gI σ 7341329 0) 0 (40 * m) (gI σ 9442321 0) (vL A 0 0).length)) 8 7 0 = Int32.ofNat m := h7
    have h4' : gI (rI σ 9442321 0 (fn_cp (gI σ 7341329 0) 0 (40 * m) (gI σ 9442321 0) (vL A 0 0).length)) 8 4 0 = Int32.ofNat (vL A 0 0).length := h4
    have hp9 := rm_p9 hM
    have hp9' : gR (rI σ 9442321 0 (fn_cp (gI σ 7341329 0) 0 (40 * m) (gI σ 9442321 0) (vL A 0 0).length)) 8 9 0 = some (10485904, 0) := hp9
    refine wp_eq (e89_36 ..) (wp_ar (k := m) hp9' aty_10485904 alen_10485904 h7' (by omega) (by decide) ?_)
    rw [h7', h4', io_nat (by omega)]
    refine wp_swM (wm_PNAME hM (p := m) (l := vL A 0 0) (f := fn_cp (gI σ 7341329 0) 0 (40 * m) (gI σ 9442321 0) (vL A 0 0).length) (fun r => (hB.2.2.2.2.2.2.2.2.1 r).1) h40.1 (fun i hi => ?_) (fun i hi => ?_)) fun σ hM => ?_
    · have hr := hG.2.1 i hi
      rw [Nat.zero_add] at hr
      unfold fn_cp
      rw [if_pos (by omega), show 0 + (40 * m + i - 40 * m) = i by omega, hr]
      exact h40.2 _ (List.getElem_mem hi)
    · unfold fn_cp
      rw [if_neg (by have := h40.1; omega)]
    have h7 := rm_PEERS hM
    have h7 : gI σ 8 7 0 = Int32.ofNat m := h7.trans (by rw [hm]; rfl)
    refine (wp_ar (k := m) (rm_p10 hM) aty_11534482 alen_11534482 h7 (by omega) (by decide) ?_)
    rw [h7, io_nat (by omega), show vp_nar .boolean x = x by rcases hx with e | e <;> rw [e] <;> decide]
    refine wp_swM (wm_STARTS hM m x) fun σ hM => ?_
    have h7 := rm_PEERS hM
    have h7 : gI σ 8 7 0 = Int32.ofNat m := h7.trans (by rw [hm]; rfl)
    refine (wp_ar (k := m) (rm_p17 hM) aty_18874512 alen_18874512 h7 (by omega) (by decide) ?_)
    rw [h7, io_nat (by omega), rm_NOW hM, io_add_l]
    refine wp_swM (wm_DUE hM m _) fun σ hM => wp_swM (wm_AT0 hM) fun σ hM => ?_
    have h7 := rm_PEERS hM
    have h7 : gI σ 8 7 0 = Int32.ofNat m := h7.trans (by rw [hm]; rfl)
    rw [h7, io_add_l]
    refine wp_swM (wm_PEERS hM (m + 1)) fun σ hM => wp_ret (k _ _ hM ?_)
    rw [rm_PEERS hM]
    rfl
  refine wp_eq (e89_2 ..) ?_
  rw [h4, h6]
  refine wp_if (fun g => ?_) (fun g => ?_) <;> rw [io_inj (by omega) (by omega)] at g
  · exact wp_eq (e89_3 ..) (wp_eq (e89_5 ..) (ml_ch hM hB g k12 (vL A 0 0).length 0 (Nat.zero_add _) (by rw [List.drop_zero, List.drop_zero])))
  · have ne : ¬ vL A 0 0 = vL A 1 0 := fun q => g (by rw [q])
    refine wp_eq (e89_4 ..) (wp_eq (e89_5 ..) (wp_eq (e89_6 ..) ?_))
    exact wp_if (fun _ => k12 0 (.inl ⟨rfl, ne⟩)) (fun _ => wp_eq (e89_7 ..) (wp_if (fun _ => k12 0 (.inl ⟨rfl, ne⟩)) (fun g => absurd rfl g)))
