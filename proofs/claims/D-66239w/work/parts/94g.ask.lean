/-! PART 94g (src 94g.ask.src): a question is asked, on both sides -/
set_option maxHeartbeats 400000
def fn_qnew (A : w_A) (s : Nat) : w_A := sL (sL (sL (sN A 3 0 (vN A 3 0 + 1)) 7 (vN A 3 0) (vL A 4 s)) 8 (vN A 3 0) (vL A 5 s)) 9 (vN A 3 0) (vL A 6 s)
def fn_aby (A : w_A) (s : Nat) : Option Nat := if fn_us A ((vI A 20 s).toNatClampNeg - 1) then some ((vI A 20 s).toNatClampNeg - 1) else fn_usable A
def fn_cAsk (A : w_A) (x : Int32) : w_A × Int32 := if x < 0 ∨ ¬ x < Int32.ofNat (vN A 2 0) then (A, -1)
  else match fn_aby A x.toNatClampNeg with
    | none => (A, -3)
    | some b => if vN A 3 0 = 64 then (A, -4) else (fn_put (fn_qnew A x.toNatClampNeg) (vN A 3 0) b, Int32.ofNat (vN A 3 0))
theorem B_qnew {n : Nat} {A : w_A} (h : z_B n A) {s : Nat} (hs : s < vN A 2 0) (h64 : vN A 3 0 < 64) : z_B n (fn_qnew A s) := by
  obtain ⟨b1, b2, b3, b4, b5, b6, b7, b8, b9, b10, b11, b12, b13⟩ := h
  have hn := b11 s hs
  refine ⟨⟨b1.1, b1.2.1, b1.2.2.1, ?_, b1.2.2.2.2.1, b1.2.2.2.2.2⟩, b2, b3, b4, b5, b6, b7, b8, b9, fun i => ?_, b11, b12, b13⟩
  · show vN A 3 0 + 1 ≤ 64
    omega
  · have h := b10 i
    unfold fn_qnew
    simp only [ev_rd, ev_st, aEl, z_w, z_cat, Nat.reduceMod, Nat.reduceDiv, Nat.reduceLeDiff, Nat.reduceLT, Nat.reduceAdd, Nat.reduceMul, Nat.reduceSub, Nat.reduceEqDiff, Int32.reduceLT, Int32.reduceLE, Int32.reduceAdd, Int32.reduceSub, Int32.reduceMul, true_and, and_true, false_and, and_false, true_or, or_true, false_or, or_false, not_true_eq_false, not_false_eq_true, if_true, if_false, reduceIte, ne_eq, and_self, or_self, reduceCtorEq, Option.some.injEq, Prod.mk.injEq, vL_sL]
    by_cases e : i = vN A 3 0
    · simp only [e, ev_rd, ev_st, aEl, z_w, z_cat, Nat.reduceMod, Nat.reduceDiv, Nat.reduceLeDiff, Nat.reduceLT, Nat.reduceAdd, Nat.reduceMul, Nat.reduceSub, Nat.reduceEqDiff, Int32.reduceLT, Int32.reduceLE, Int32.reduceAdd, Int32.reduceSub, Int32.reduceMul, true_and, and_true, false_and, and_false, true_or, or_true, false_or, or_false, not_true_eq_false, not_false_eq_true, if_true, if_false, reduceIte, ne_eq, and_self, or_self, reduceCtorEq, Option.some.injEq, Prod.mk.injEq]
      exact hn
    · simp only [e, ev_rd, ev_st, aEl, z_w, z_cat, Nat.reduceMod, Nat.reduceDiv, Nat.reduceLeDiff, Nat.reduceLT, Nat.reduceAdd, Nat.reduceMul, Nat.reduceSub, Nat.reduceEqDiff, Int32.reduceLT, Int32.reduceLE, Int32.reduceAdd, Int32.reduceSub, Int32.reduceMul, true_and, and_true, false_and, and_false, true_or, or_true, false_or, or_false, not_true_eq_false, not_false_eq_true, if_true, if_false, reduceIte, ne_eq, and_self, or_self, reduceCtorEq, Option.some.injEq, Prod.mk.injEq]
      exact h
theorem aby_us {A : w_A} {s b : Nat} (h : fn_aby A s = some b) : fn_us A b := by
  unfold fn_aby at h
  split at h
  · rename_i g
    cases h
    exact g
  · exact of_decide_eq_true (fn_first_some h).2
theorem aby_lt {A : w_A} {s b : Nat} (h : fn_aby A s = some b) (hs : ∃ q, 1 ≤ q ∧ q ≤ vN A 0 0 ∧ vI A 20 s = Int32.ofNat q) (h4 : vN A 0 0 ≤ 4) : b < vN A 0 0 := by
  unfold fn_aby at h
  split at h
  · obtain ⟨q, h1, h2, h3⟩ := hs
    rw [h3, io_nat (by omega)] at h
    cases h
    omega
  · exact (fn_first_some h).1
theorem xc_ask {T σ : z_St} {A : w_A} (hX : w_X T σ A) {n : Nat} (hI : z_I n A) (hS : z_S1 A) {d : Nat} {x : Int32} {Q : z_St → Option z_V → Prop} (k : ∀ σ v, w_X T σ (fn_cAsk A x).1 → v = some (.inl (fn_cAsk A x).2) → Q σ v) : wp (zD (d + 6) 46 [.inr (.inr (some (0, 0))), .inl x] σ) Q := by
  have hB := hI.1
  have hb := hB.1
  unfold fn_cAsk at k
  refine wp_eq (c46 ..) (wp_eq (e46_0 ..) ?_)
  rw [rx_SESS hX]
  refine wp_cr (xc_isIn (d := d + 4) fun v hv => ⟨_, hv, wp_asI0 ?_⟩)
  refine wp_if (fun h => ?_) (fun h => ?_) <;> rw [b2i_0, in_ix (by omega)] at h
  · have h' : x < 0 ∨ ¬ x < Int32.ofNat (vN A 2 0) := by
      by_cases g : x < 0
      · exact .inl g
      · exact .inr fun q => h ⟨g, q⟩
    rw [if_pos h'] at k
    exact wp_eq (e46_1 ..) (wp_ret (k _ _ hX rfl))
  have h := Classical.not_not.mp h
  rw [if_neg (fun q => q.elim h.1 (fun q => q h.2))] at k
  obtain ⟨s, hs, rfl, hx⟩ := ix_of (by omega) h.1 h.2
  rw [hx] at k
  have hs31 : s < 2147483648 := by omega
  have so := rx_sobj hX (s := s) (by omega)
  obtain ⟨q, q1, q2, q3⟩ := (hS s hs).2.2.2.1
  have hby := @aby_lt A s
  have key5 : ∀ (o : Option Nat) (σ : z_St), w_X T σ A → o = fn_aby A s → wp (E xP46 (zD (d + 5)) 5 [some (.inr (.inr (some (0, 0)))), none, some (.inr (.inr (some (5, vN A 17 s)))), some (.inr (.inr (o.map fun p => (9, p)))), none] [] σ) Q := by
    intro o σ hX ho
    rw [← ho] at k
    cases o with
    | none => exact wp_eq (e46_5 ..) (wp_if (fun _ => wp_eq (e46_6 ..) (wp_ret (k _ _ hX rfl))) (fun g => absurd rfl g))
    | some b =>
      dsimp only at k
      have hus := aby_us ho.symm
      have hbl := hby ho.symm ⟨q, q1, q2, q3⟩ hb.1
      refine wp_eq (e46_5 ..) (wp_if (fun g => absurd g (by simp)) (fun _ => wp_eq (e46_7 ..) ?_))
      rw [rx_ASKS hX]
      refine wp_if (fun g => ?_) (fun g => ?_) <;> rw [show (64 : Int32) = Int32.ofNat 64 from rfl, io_inj (by omega) (by omega)] at g
      · rw [if_pos g] at k
        exact wp_eq (e46_8 ..) (wp_ret (k _ _ hX rfl))
      rw [if_neg g] at k
      have ha : vN A 3 0 < 64 := by omega
      obtain ⟨i, hi⟩ : ∃ i, i = vN A 3 0 := ⟨_, rfl⟩
      have hBq := B_qnew hB hs ha
      have hz := hI.2.2.2 (vN A 3 0) (Nat.le_refl _)
      have hlq : z_LK (fn_qnew A s) := hI.2.1
      have huq : fn_up (fn_qnew A s) b := hus.1
      have hfq : (128 ||| (64 ||| (0 : Int32))) = if vI (fn_qnew A s) 15 i = 0 then 192 else 208 := by
        rw [show vI (fn_qnew A s) 15 i = 0 from by rw [hi]; exact hz.1]
        decide
      have e0 : fn_qnew A s = sL (sL (sL (sN A 3 0 (i + 1)) 7 i (vL A 4 s)) 8 i (vL A 5 s)) 9 i (vL A 6 s) := by
        unfold fn_qnew
        rw [hi]
      rw [← hi] at k ha
      have hb2 : vN A 2 0 ≤ 16 := hb.2.2.1
      have hb4 : vN A 4 0 ≤ 32 := hb.2.2.2.2.1
      have hsn := hB.2.2.2.2.2.2.2.2.2.2.1 s hs
      refine wp_eq (e46_9 ..) ?_
      rw [rx_ASKS hX, ← hi, io_add_l]
      have hX1 := wx_ASKS hX (i + 1)
      refine wp_sw (wp_dr (rx_p0_13 hX) (wp_gd (by rw [aty_5244952]; decide) (wp_gd (by rw [alen_5244952]; exact zin_io (by omega) (by decide)) ?_)))
      dsimp only
      rw [io_nat (by omega)]
      have hq0 := rx_asks hX1 i (by omega)
      have ht1 := ((rx_J hX1).2.2 s hs).2.2.2.2.2.1
      have hX2 : ∀ f : Nat → Int32, (∀ k, (h : k < (vL A 4 s).length) → f k = (vL A 4 s)[k]) → w_X T (x_tw (wI σ 0 14 0 (Int32.ofNat (i + 1))) (52 + 3 * i) (vL (sN A 3 0 (i + 1)) 4 s).length f) (sL (sN A 3 0 (i + 1)) 7 i (vL A 4 s)) := fun f hf => wx_QNAME hX1 hb2 hb4 (by omega) hf
      refine wp_dr hq0 (wp_gd rfl (wp_dr rfl (wp_gd rfl (wp_dr (rx_p6_0 hX1 i) (wp_gd rfl ?_)))))
      dsimp only
      rw [rx_p5_0 hX1]
      have o1 := ((rx_J hX1).1 s (by omega)).2.1
      have o1 : vN A 17 s < 16 := o1
      refine wp_cv (xc_copy_ (d := d + 4) ht1 hsn.1.1 (rx_p1_0 hX1) (by show ¬ 4 + 3 * vN A 17 s = _; omega) fun f1 hf1 => ⟨rfl, ?_⟩)
      have hX2 := hX2 f1 hf1
      generalize x_tw (wI σ 0 14 0 (Int32.ofNat (i + 1))) (52 + 3 * i) (vL (sN A 3 0 (i + 1)) 4 s).length f1 = σ2 at hX2 ⊢
      rw [hq0]
      have ht2 := ((rx_J hX2).2.2 s hs).2.2.2.2.2.2.1
      refine wp_dr rfl (wp_gd rfl (wp_dr rfl (wp_gd rfl (wp_dr (rx_p6_1 hX2 i) (wp_gd rfl ?_)))))
      dsimp only
      rw [rx_p5_1 hX2]
      refine wp_cv (xc_copy_ (d := d + 4) ht2 hsn.2.1.1 (rx_p1_0 hX2) (by show ¬ 5 + 3 * vN A 17 s = _; omega) fun f2 hf2 => ⟨rfl, ?_⟩)
      have hX3 := wx_QHOST hX2 hb2 hb4 (i := i) (by omega) hf2
      generalize x_tw σ2 (53 + 3 * i) (vL (sL (sN A 3 0 (i + 1)) 7 i (vL A 4 s)) 5 s).length f2 = σ3 at hX3 ⊢
      have ht3 := ((rx_J hX3).2.2 s hs).2.2.2.2.2.2.2
      refine wp_dr rfl (wp_gd rfl (wp_dr rfl (wp_gd rfl (wp_dr (rx_p6_2 hX3 i) (wp_gd rfl ?_)))))
      dsimp only
      rw [rx_p5_2 hX3]
      refine wp_cv (xc_copy_ (d := d + 4) ht3 hsn.2.2.1 (rx_p1_0 hX3) (by show ¬ 6 + 3 * vN A 17 s = _; omega) fun f3 hf3 => ⟨rfl, ?_⟩)
      have hX4 := wx_QREALM hX3 hb2 hb4 (i := i) (by omega) hf3
      generalize x_tw σ3 (54 + 3 * i) (vL (sL (sL (sN A 3 0 (i + 1)) 7 i (vL A 4 s)) 8 i (vL (sL (sN A 3 0 (i + 1)) 7 i (vL A 4 s)) 5 s)) 6 s).length f3 = σ4 at hX4 ⊢
      have hX4 : w_X T σ4 (fn_qnew A s) := by rw [e0]; exact hX4
      refine wp_cv (xc_put_ (d := d) hX4 hBq hlq (by omega) huq hfq fun σ hX => ⟨rfl, wp_ret (k _ _ hX ?_)⟩)
      rw [rx_ASKS hX, show vN (fn_put (fn_qnew A s) i b) 3 0 = i + 1 from ((fr_put (fn_qnew A s) i b).2.2.2.1 _ _ (.inl (by decide))).trans (by rw [e0]; rfl), io_sub_l (by show 1 ≤ i + 1; omega)]
      rfl
  refine wp_eq (e46_2 ..) (wp_dr (rx_p0_11 hX) (wp_gd (by rw [aty_4194839]; decide) (wp_gd (by rw [alen_4194839]; exact zin_io (by omega) (by decide)) ?_)))
  dsimp only
  rw [io_nat hs31, so]
  refine wp_dr rfl (wp_gd rfl ?_)
  dsimp only
  rw [rx_SPEER hX hs, q3]
  have hpk : fn_pk (vN A 0 0) (Int32.ofNat q) = some (q - 1) := by
    unfold fn_pk
    rw [if_pos ⟨by rw [show (1 : Int32) = Int32.ofNat 1 from rfl, io_le (by omega) (by omega)]; exact q1, by rw [io_le (by omega) (by omega)]; exact q2⟩, io_nat (by omega)]
  refine wp_cr (xc_peerAt (d := d + 3) hX hB fun v hv => ⟨_, hv, ?_⟩)
  rw [hpk]
  have e1 : (Int32.ofNat q).toNatClampNeg - 1 = q - 1 := by rw [io_nat (by omega)]
  refine wp_asR0 (wp_if (fun g => absurd g (by simp)) (fun _ => wp_eq (e46_3 ..) (wp_dr rfl (wp_gd rfl (wp_cr (xc_isUsable (d := d + 3) hX fun σ' v hX' hv => ⟨_, hv, wp_asI0 ?_⟩))))))
  refine wp_if (fun g => ?_) (fun g => ?_) <;> rw [b2i_0] at g
  · refine wp_eq (e46_4 ..) (wp_cr (xc_usable (d := d + 2) hX' hB fun σ v hX hv => ⟨_, hv, wp_asR0 (key5 (fn_usable A) σ hX ?_)⟩))
    unfold fn_aby
    rw [q3, e1, if_neg g]
  · refine key5 (some (q - 1)) σ' hX' ?_
    unfold fn_aby
    rw [q3, e1, if_pos (Classical.not_not.mp g)]
theorem wm_QNAME {T σ : z_St} {A : w_A} (h : w_M T σ A) {i : Nat} (hz : ∀ r, (vL A 7 r).length ≤ 40) {l : List Int32} {f : Nat → Int32} (h0 : f (41 * i) = Int32.ofNat l.length) (hk : ∀ k, (e : k < l.length) → f (41 * i + 1 + k) = l[k]) (ho : ∀ j, ¬ (41 * i ≤ j ∧ j < 41 * i + 41) → f j = gI σ 49367057 0 j) : w_M T (rI σ 49367057 0 f) (sL A 7 i l) := by
  obtain ⟨hT, hA, hB, hC, hD, hG, hH, hI, hJ, hK, hL, hM, hN⟩ := h
  obtain ⟨g1, g2, g3, g4, g5, g6⟩ := hG
  refine ⟨m_T_rI hT (z_isM_yes _ rfl), hA, hB, hC, hD, ⟨g1, g2, g3, g4, g5, fun q hq => ?_⟩, hH, hI, hJ, hK, hL, hM, hN⟩
  obtain ⟨q1, q2, q3⟩ := g6 q hq
  refine ⟨?_, q2, q3⟩
  show m_nm (rI σ 49367057 0 f) 49367057 (41 * q) (vL (sL A 7 i l) 7 q)
  rw [vL_sL]
  by_cases e : q = i
  · subst e
    rw [if_pos ⟨rfl, rfl⟩]
    refine ⟨by rw [hI_rI, if_pos ⟨rfl, rfl⟩]; exact h0, fun k hk2 => ?_⟩
    rw [hI_rI, if_pos ⟨rfl, rfl⟩]
    exact hk k hk2
  · rw [if_neg (fun g => e g.2)]
    have hq40 := hz q
    refine ⟨by rw [hI_rI, if_pos ⟨rfl, rfl⟩, ho _ (by omega)]; exact q1.1, fun k hk2 => ?_⟩
    rw [hI_rI, if_pos ⟨rfl, rfl⟩, ho _ (by omega)]
    exact q1.2 k hk2
theorem wm_QHOST {T σ : z_St} {A : w_A} (h : w_M T σ A) {i : Nat} (hz : ∀ r, (vL A 8 r).length ≤ 40) {l : List Int32} {f : Nat → Int32} (h0 : f (41 * i) = Int32.ofNat l.length) (hk : ∀ k, (e : k < l.length) → f (41 * i + 1 + k) = l[k]) (ho : ∀ j, ¬ (41 * i ≤ j ∧ j < 41 * i + 41) → f j = gI σ 50415633 0 j) : w_M T (rI σ 50415633 0 f) (sL A 8 i l) := by
  obtain ⟨hT, hA, hB, hC, hD, hG, hH, hI, hJ, hK, hL, hM, hN⟩ := h
  obtain ⟨g1, g2, g3, g4, g5, g6⟩ := hG
  refine ⟨m_T_rI hT (z_isM_yes _ rfl), hA, hB, hC, hD, ⟨g1, g2, g3, g4, g5, fun q hq => ?_⟩, hH, hI, hJ, hK, hL, hM, hN⟩
  obtain ⟨q1, q2, q3⟩ := g6 q hq
  refine ⟨q1, ?_, q3⟩
  show m_nm (rI σ 50415633 0 f) 50415633 (41 * q) (vL (sL A 8 i l) 8 q)
  rw [vL_sL]
  by_cases e : q = i
  · subst e
    rw [if_pos ⟨rfl, rfl⟩]
    refine ⟨by rw [hI_rI, if_pos ⟨rfl, rfl⟩]; exact h0, fun k hk2 => ?_⟩
    rw [hI_rI, if_pos ⟨rfl, rfl⟩]
    exact hk k hk2
  · rw [if_neg (fun g => e g.2)]
    have hq40 := hz q
    refine ⟨by rw [hI_rI, if_pos ⟨rfl, rfl⟩, ho _ (by omega)]; exact q2.1, fun k hk2 => ?_⟩
    rw [hI_rI, if_pos ⟨rfl, rfl⟩, ho _ (by omega)]
    exact q2.2 k hk2
theorem wm_QREALM {T σ : z_St} {A : w_A} (h : w_M T σ A) {i : Nat} (hz : ∀ r, (vL A 9 r).length ≤ 40) {l : List Int32} {f : Nat → Int32} (h0 : f (41 * i) = Int32.ofNat l.length) (hk : ∀ k, (e : k < l.length) → f (41 * i + 1 + k) = l[k]) (ho : ∀ j, ¬ (41 * i ≤ j ∧ j < 41 * i + 41) → f j = gI σ 51464209 0 j) : w_M T (rI σ 51464209 0 f) (sL A 9 i l) := by
  obtain ⟨hT, hA, hB, hC, hD, hG, hH, hI, hJ, hK, hL, hM, hN⟩ := h
  obtain ⟨g1, g2, g3, g4, g5, g6⟩ := hG
  refine ⟨m_T_rI hT (z_isM_yes _ rfl), hA, hB, hC, hD, ⟨g1, g2, g3, g4, g5, fun q hq => ?_⟩, hH, hI, hJ, hK, hL, hM, hN⟩
  obtain ⟨q1, q2, q3⟩ := g6 q hq
  refine ⟨q1, q2, ?_⟩
  show m_nm (rI σ 51464209 0 f) 51464209 (41 * q) (vL (sL A 9 i l) 9 q)
  rw [vL_sL]
  by_cases e : q = i
  · subst e
    rw [if_pos ⟨rfl, rfl⟩]
    refine ⟨by rw [hI_rI, if_pos ⟨rfl, rfl⟩]; exact h0, fun k hk2 => ?_⟩
    rw [hI_rI, if_pos ⟨rfl, rfl⟩]
    exact hk k hk2
  · rw [if_neg (fun g => e g.2)]
    have hq40 := hz q
    refine ⟨by rw [hI_rI, if_pos ⟨rfl, rfl⟩, ho _ (by omega)]; exact q3.1, fun k hk2 => ?_⟩
    rw [hI_rI, if_pos ⟨rfl, rfl⟩, ho _ (by omega)]
    exact q3.2 k hk2
theorem mc_ask {T σ : z_St} {A : w_A} (hM : w_M T σ A) {n : Nat} (hI : z_I n A) (hS : z_S1 A) {d : Nat} {x : Int32} {Q : z_St → Option z_V → Prop} (k : ∀ σ v, w_M T σ (fn_cAsk A x).1 → v = some (.inl (fn_cAsk A x).2) → Q σ v) : wp (zD (d + 6) 182 [.inr (.inr (some (8, 0))), .inl x] σ) Q := by
  have hB := hI.1
  have hb := hB.1
  unfold fn_cAsk at k
  refine wp_eq (c182 ..) (wp_eq (e182_0 ..) (wp_swM (wm_code hM _) fun σ hM => wp_if (fun h => ?_) (fun h0 => ?_)))
  · rw [if_pos (.inl h)] at k
    exact wp_eq (e182_2 ..) (wp_ret (k _ _ hM rfl))
  refine wp_eq (e182_1 ..) ?_
  rw [rm_SESS hM]
  refine wp_if (fun h1 => ?_) (fun h1 => ?_)
  rotate_left
  · rw [if_pos (.inr h1)] at k
    exact wp_eq (e182_2 ..) (wp_ret (k _ _ hM rfl))
  rw [if_neg (fun q => q.elim h0 (fun q => q h1))] at k
  obtain ⟨s, hs, rfl, hx⟩ := ix_of (by omega) h0 h1
  rw [hx] at k
  have hs31 : s < 2147483648 := by omega
  obtain ⟨q, q1, q2, q3⟩ := (hS s hs).2.2.2.1
  have hby := @aby_lt A s
  have key6 : ∀ (o : Option Nat) (σ : z_St), w_M T σ A → o = fn_aby A s → wp (E xP182 (zD (d + 5)) 6 [some (.inr (.inr (some (8, 0)))), some (.inl (Int32.ofNat s)), none] [.inl (fn_ix o)] σ) Q := by
    intro o σ hM ho
    rw [← ho] at k
    cases o with
    | none => exact wp_eq (e182_6 ..) (wp_if (fun g => absurd g (by decide)) (fun _ => wp_eq (e182_7 ..) (wp_ret (k _ _ hM rfl))))
    | some b =>
      dsimp only at k
      have hus := aby_us ho.symm
      have hbl := hby ho.symm ⟨q, q1, q2, q3⟩ hb.1
      rw [show fn_ix (some b) = Int32.ofNat b from rfl]
      refine wp_eq (e182_6 ..) (wp_if (fun _ => wp_eq (e182_8 ..) ?_) (fun g => absurd (io_pos (by omega)) g))
      rw [rm_ASKS hM]
      refine wp_if (fun g => ?_) (fun g => ?_) <;> rw [show (64 : Int32) = Int32.ofNat 64 from rfl, io_inj (by omega) (by omega)] at g
      · rw [if_pos g] at k
        exact wp_eq (e182_9 ..) (wp_ret (k _ _ hM rfl))
      rw [if_neg g] at k
      have ha : vN A 3 0 < 64 := by omega
      obtain ⟨i, hi⟩ : ∃ i, i = vN A 3 0 := ⟨_, rfl⟩
      have hBq := B_qnew hB hs ha
      have hz := hI.2.2.2 (vN A 3 0) (Nat.le_refl _)
      have hlq : z_LK (fn_qnew A s) := hI.2.1
      have huq : fn_up (fn_qnew A s) b := hus.1
      have hfq : vI (fn_qnew A s) 15 i = 0 ↔ vI (fn_qnew A s) 17 i = 0 := by
        rw [show vI (fn_qnew A s) 15 i = 0 from by rw [hi]; exact hz.1, show vI (fn_qnew A s) 17 i = 0 from by rw [hi]; exact hz.2.1]
      have e0 : fn_qnew A s = sL (sL (sL (sN A 3 0 (i + 1)) 7 i (vL A 4 s)) 8 i (vL A 5 s)) 9 i (vL A 6 s) := by
        unfold fn_qnew
        rw [hi]
      rw [← hi] at k ha
      have hsn := hB.2.2.2.2.2.2.2.2.2.2.1 s hs
      have hqn := hB.2.2.2.2.2.2.2.2.2.1
      have ra : gI σ 8 49 0 = Int32.ofNat i := (rm_ASKS hM).trans (by rw [hi])
      have em : ∀ j, (41 : Int32) * Int32.ofNat j = Int32.ofNat (41 * j) := fun j => io_mul 41 j
      obtain ⟨-, -, -, -, -, g1, g2, g3⟩ := (rm_J hM).2 s hs
      refine wp_eq (e182_10 ..) ?_
      rw [rm_p41 hM, rm_p50 hM, ra, em, em]
      have n1 := cp_nm (h := gI σ 49367057 0) (y := 41 * i) hsn.1 g1.1 g1.2
      refine wp_cv (mc_copyRow (d := d + 4) aty_40915473 aty_49367057 (by rw [alen_40915473]; omega) (by rw [alen_49367057]; omega) (by rw [alen_40915473]; decide) (by rw [alen_49367057]; decide) (fun g => absurd g (by decide)) ⟨rfl, ?_⟩)
      have hM1 := wm_QNAME hM (fun r => (hqn r).1.1) n1.1 n1.2.1 n1.2.2
      generalize rI σ 49367057 0 (fn_cp (gI σ 40915473 0) (41 * s) (41 * i) (gI σ 49367057 0) 41) = σ1 at hM1 ⊢
      obtain ⟨-, -, -, -, -, -, g2, g3⟩ := (rm_J hM1).2 s hs
      have ra : gI σ1 8 49 0 = Int32.ofNat i := (rm_ASKS hM1).trans (by rw [hi]; rfl)
      rw [rm_p42 hM1, rm_p51 hM1, ra, em]
      have n2 := cp_nm (h := gI σ1 50415633 0) (y := 41 * i) hsn.2.1 g2.1 g2.2
      refine wp_cv (mc_copyRow (d := d + 4) aty_41964049 aty_50415633 (by rw [alen_41964049]; omega) (by rw [alen_50415633]; omega) (by rw [alen_41964049]; decide) (by rw [alen_50415633]; decide) (fun g => absurd g (by decide)) ⟨rfl, ?_⟩)
      have hM2 := wm_QHOST hM1 (fun r => (hqn r).2.1.1) n2.1 n2.2.1 n2.2.2
      generalize rI σ1 50415633 0 (fn_cp (gI σ1 41964049 0) (41 * s) (41 * i) (gI σ1 50415633 0) 41) = σ2 at hM2 ⊢
      obtain ⟨-, -, -, -, -, -, -, g3⟩ := (rm_J hM2).2 s hs
      have ra : gI σ2 8 49 0 = Int32.ofNat i := (rm_ASKS hM2).trans (by rw [hi]; rfl)
      rw [rm_p43 hM2, rm_p52 hM2, ra, em]
      have n3 := cp_nm (h := gI σ2 51464209 0) (y := 41 * i) hsn.2.2 g3.1 g3.2
      refine wp_cv (mc_copyRow (d := d + 4) aty_43012625 aty_51464209 (by rw [alen_43012625]; omega) (by rw [alen_51464209]; omega) (by rw [alen_43012625]; decide) (by rw [alen_51464209]; decide) (fun g => absurd g (by decide)) ⟨rfl, ?_⟩)
      have hM3 := wm_QREALM hM2 (fun r => (hqn r).2.2.1) n3.1 n3.2.1 n3.2.2
      generalize rI σ2 51464209 0 (fn_cp (gI σ2 43012625 0) (41 * s) (41 * i) (gI σ2 51464209 0) 41) = σ3 at hM3 ⊢
      have ra : gI σ3 8 49 0 = Int32.ofNat i := (rm_ASKS hM3).trans (by rw [hi]; rfl)
      rw [ra, io_add_l]
      refine wp_swM (wm_ASKS hM3 (i + 1)) fun σ4 hM4 => ?_
      have hM4 : w_M T σ4 (fn_qnew A s) := by rw [e0]; exact hM4
      have ra : gI σ4 8 49 0 = Int32.ofNat (i + 1) := (rm_ASKS hM4).trans (by rw [e0]; rfl)
      rw [ra, show Int32.ofNat (i + 1) - 1 = Int32.ofNat i from by rw [io_sub_l (by show 1 ≤ i + 1; omega)]; rfl]
      refine wp_cv (mc_put_ (d := d) hM4 hBq hlq (by omega) (by omega) huq hfq fun σ hM => ⟨rfl, wp_ret (k _ _ hM ?_)⟩)
      rw [rm_ASKS hM, show vN (fn_put (fn_qnew A s) i b) 3 0 = i + 1 from ((fr_put (fn_qnew A s) i b).2.2.2.1 _ _ (.inl (by decide))).trans (by rw [e0]; rfl), io_sub_l (by show 1 ≤ i + 1; omega)]
      rfl
  have e1 : (Int32.ofNat q).toNatClampNeg - 1 = q - 1 := by rw [io_nat (by omega)]
  have e2 : Int32.ofNat q - 1 = Int32.ofNat (q - 1) := by rw [io_sub_l (by show 1 ≤ q; omega)]
  refine wp_eq (e182_3 ..) (wp_ar (rm_p47 hM) aty_47186448 alen_47186448 rfl (by omega) (by decide) ?_)
  dsimp only
  rw [io_nat hs31, rm_SPEER hM hs, q3, e2]
  refine wp_cr (mc_isUsable (d := d + 4) hM (by omega) fun σ v hM hv => ⟨_, hv, wp_asI0 ?_⟩)
  refine wp_if (fun g => ?_) (fun g => ?_) <;> rw [b2i_0] at g
  · refine wp_eq (e182_5 ..) (wp_cr (mc_usable (d := d + 3) hM hB fun σ v hM hv => ⟨_, hv, key6 (fn_usable A) σ hM ?_⟩))
    unfold fn_aby
    rw [q3, e1, if_neg g]
  · refine wp_eq (e182_4 ..) (wp_ar (rm_p47 hM) aty_47186448 alen_47186448 rfl (by omega) (by decide) ?_)
    dsimp only
    rw [io_nat hs31, rm_SPEER hM hs, q3, e2]
    refine key6 (some (q - 1)) σ hM ?_
    unfold fn_aby
    rw [q3, e1, if_pos (Classical.not_not.mp g)]
