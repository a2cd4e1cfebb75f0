/-! PART 93a (src 93a.wsec.src): a second, and a tick, keep what always holds -/
set_option maxHeartbeats 800000
set_option maxRecDepth 20000
theorem B_remove {n : Nat} {A : w_A} (h : z_B n A) {s : Nat} (hs : s < vN A 2 0) : z_B n (fn_remove A s) := by
  obtain ⟨b1, b2, b3, b4, b5, b6, b7, b8, b9, b10, b11, b12, b13⟩ := h
  refine ⟨⟨b1.1, b1.2.1, ?_, b1.2.2.2.1, b1.2.2.2.2.1, b1.2.2.2.2.2⟩, b2, b3, b4, b5, fun r => ?_, b7, b8, b9, b10, fun r hr => ?_, b12, b13⟩
  · show vN A 2 0 - 1 ≤ 16
    have := b1.2.2.1
    omega
  · show fn_out (vN A 2 0) s (vN A 13) r ≤ 16
    unfold fn_out
    split
    · exact b6 _
    · exact b6 _
  · have hr : r < vN A 2 0 - 1 := hr
    show z_nm (fn_out (vN A 2 0) s (vL A 4) r) ∧ z_nm (fn_out (vN A 2 0) s (vL A 5) r) ∧ z_nm (fn_out (vN A 2 0) s (vL A 6) r)
    unfold fn_out
    by_cases e : s ≤ r ∧ r + 1 < vN A 2 0
    · rw [if_pos e, if_pos e, if_pos e]; exact b11 (r + 1) (by omega)
    · rw [if_neg e, if_neg e, if_neg e]; exact b11 r (by omega)
theorem df_cf {A D : w_A} (f : z_df A D) (h : ∀ i, vJ D 4 i = vJ A 4 i) : z_cf A D :=
  ⟨fun v i a b => f.1 v i (by show v ≠ 20; omega) (by show v ≠ 21; omega) (by show v ≠ 19; omega), fun v i a => f.2.2.1 v i (by show v ≠ 2; omega) (by show v ≠ 13; omega) (by show v ≠ 16; omega) (by show v ≠ 17; omega), h⟩
/-- a session that ends -/
def fn_go (A : w_A) (s : Nat) : w_A := fn_remove (fn_settle A s 0) s
theorem go_cf (A : w_A) (s : Nat) : z_cf A (fn_go A s) := df_cf (df_remove (df_settle A s 0) s) (fun _ => rfl)
theorem C_go {n : Nat} {A : w_A} (h : z_C n A) {s : Nat} (hs : s < vN A 2 0) : z_C n (fn_go A s) := C_cf h (go_cf A s) (B_remove (A := fn_settle A s 0) h.1.1 hs)
theorem remove_NOW (A : w_A) (s t : Nat) : fn_remove (sN A 5 0 t) s = sN (fn_remove A s) 5 0 t := by
  have e13 : vN (sN A 5 0 t) 13 = vN A 13 := rfl
  have e17 : vN (sN A 5 0 t) 17 = vN A 17 := rfl
  refine A_ext (fun _ _ => rfl) (fun _ _ => rfl) (fun v i => ?_) (fun _ _ => rfl) rfl
  by_cases e : v = 5
  · subst e
    unfold fn_remove
    simp only [ev_rd, ev_st, aEl, z_w, z_cat, Nat.reduceMod, Nat.reduceDiv, Nat.reduceLeDiff, Nat.reduceLT, Nat.reduceAdd, Nat.reduceMul, Nat.reduceSub, Nat.reduceEqDiff, Int32.reduceLT, Int32.reduceLE, Int32.reduceAdd, Int32.reduceSub, Int32.reduceMul, true_and, and_true, false_and, and_false, true_or, or_true, false_or, or_false, not_true_eq_false, not_false_eq_true, if_true, if_false, reduceIte, ne_eq, and_self, or_self, reduceCtorEq, Option.some.injEq, Prod.mk.injEq, vN_sN, vN_tN, e13, e17]
    all_goals rfl
  · unfold fn_remove
    simp only [ev_rd, ev_st, aEl, z_w, z_cat, Nat.reduceMod, Nat.reduceDiv, Nat.reduceLeDiff, Nat.reduceLT, Nat.reduceAdd, Nat.reduceMul, Nat.reduceSub, Nat.reduceEqDiff, Int32.reduceLT, Int32.reduceLE, Int32.reduceAdd, Int32.reduceSub, Int32.reduceMul, true_and, and_true, false_and, and_false, true_or, or_true, false_or, or_false, not_true_eq_false, not_false_eq_true, if_true, if_false, reduceIte, ne_eq, and_self, or_self, reduceCtorEq, Option.some.injEq, Prod.mk.injEq, vN_sN, vN_tN, e, e13, e17]
    all_goals rfl
theorem go_NOW (A : w_A) (s t : Nat) : fn_go (sN A 5 0 t) s = sN (fn_go A s) 5 0 t := remove_NOW (fn_settle A s 0) s t
/-- inside a second: what z_st says, the sessions before q are done; t is the second before -/
def z_sx (t q : Nat) (A : w_A) : Prop := z_S1 (sN A 5 0 t) ∧ z_S2 A ∧ z_SN A ∧ z_KT A ∧ z_in A ∧ z_LT A ∧ z_let (vL A 0 0) ∧ (∀ r, r < 16 → ¬ vN A 16 0 = r + 1) ∧ ∀ r, r < q → r < vN A 2 0 → ¬ vI A 21 r = Int32.ofNat (vN A 5 0)
theorem sx_go {t s : Nat} {A : w_A} (h : z_sx t s A) (hs : s < vN A 2 0) : z_sx t s (fn_go A s) := by
  obtain ⟨h1, h2, h3, h4, h5, h6, h7, h8, h9⟩ := h
  obtain ⟨a1, a2, a3⟩ := S_settle (A := sN A 5 0 t) (u := 0) h1 h2 hs (by decide)
  have b := S_remove a1 a2 hs a3
  have e : fn_remove (fn_settle (sN A 5 0 t) s 0) s = sN (fn_go A s) 5 0 t := go_NOW A s t
  rw [e] at b
  refine ⟨b.1, b.2, fun r hr => ?_, h4, h5, h6, h7, h8, fun r hr hr2 => ?_⟩
  · have hr : r < vN A 2 0 - 1 := hr
    show z_nm (fn_out (vN A 2 0) s (vL A 4) r) ∧ z_nm (fn_out (vN A 2 0) s (vL A 5) r) ∧ z_nm (fn_out (vN A 2 0) s (vL A 6) r)
    unfold fn_out
    by_cases e : s ≤ r ∧ r + 1 < vN A 2 0
    · rw [if_pos e, if_pos e, if_pos e]; exact h3 (r + 1) (by omega)
    · rw [if_neg e, if_neg e, if_neg e]; exact h3 r (by omega)
  · show ¬ fn_out (vN A 2 0) s (vI A 21) r = Int32.ofNat (vN A 5 0)
    unfold fn_out
    rw [if_neg (fun g => by omega)]
    exact h9 r hr (by omega)
theorem sts_keep (t : Nat) : ∀ (f s n d : Nat) (A : w_A), s + f = vN A 2 0 → z_C n A → z_tm A → z_sx t s A → z_C n (fn_sts f s A d).1 ∧ z_tm (fn_sts f s A d).1 ∧ z_sx t (vN (fn_sts f s A d).1 2 0) (fn_sts f s A d).1 ∧ vN (fn_sts f s A d).1 5 0 = vN A 5 0 ∧ vN (fn_sts f s A d).1 0 0 = vN A 0 0
  | 0, s, n, d, A, hf, hC, ht, hx => ⟨hC, ht, by
      have : s = vN A 2 0 := by omega
      rw [this] at hx
      exact hx, rfl, rfl⟩
  | f + 1, s, n, d, A, hf, hC, ht, hx => by
    have hs : s < vN A 2 0 := by omega
    rw [sts_s]
    by_cases h : vI A 21 s = Int32.ofNat (vN A 5 0)
    · rw [if_pos h]
      have hg := sts_keep t f s n (d + 1) (fn_go A s) (by show s + f = vN A 2 0 - 1; omega) (C_go hC hs) (tm_cf ht (go_cf A s)) (sx_go hx hs)
      exact hg
    · rw [if_neg h]
      refine sts_keep t f (s + 1) n d A (by omega) hC ht ?_
      obtain ⟨h1, h2, h3, h4, h5, h6, h7, h8, h9⟩ := hx
      refine ⟨h1, h2, h3, h4, h5, h6, h7, h8, fun r hr hr2 => ?_⟩
      by_cases e : r = s
      · rw [e]; exact h
      · exact h9 r (by omega) hr2
theorem fr_sx {t : Nat} {A B : w_A} (f : z_fr A B) (h : z_sx t 0 A) : z_sx t 0 B := by
  obtain ⟨f1, f2, f3, f4, f5, f6, f7, f8⟩ := f
  obtain ⟨h1, h2, h3, h4, h5, h6, h7, h8, h9⟩ := h
  have eN : ∀ {v : Nat} (i : Nat), v ≤ 5 ∨ v = 13 ∨ (15 ≤ v ∧ v ≤ 18) → vN B v i = vN A v i := fun i e => f4 _ i e
  have eJ : ∀ {v : Nat} (i : Nat), v ≠ 4 → vJ B v i = vJ A v i := fun i e => f1 _ i e
  have eL : ∀ {v : Nat} (i : Nat), v ≠ 3 → v ≠ 12 → vL B v i = vL A v i := fun i a b => f2 _ i a b
  have eI : ∀ {v : Nat} (i : Nat), v = 11 ∨ 18 ≤ v → vI B v i = vI A v i := fun i e => f5 _ i e
  have s0 : vN B 2 0 = vN A 2 0 := eN _ (by decide)
  refine ⟨fun s hs => ?_, fun a ha => ?_, fun r hr => ?_, fun k hk => ?_, fun c hc1 hc8 h4 => ?_, ?_, ?_, fun r hr => ?_, fun r hr => absurd hr (Nat.not_lt_zero r)⟩
  · have hs : s < vN B 2 0 := hs
    rw [s0] at hs
    show 1 ≤ vN B 13 s ∧ vN B 13 s ≤ vN B 1 0 ∧ 0 ≤ (vJ B 5 s).toInt ∧ (∃ q, 1 ≤ q ∧ q ≤ vN B 0 0 ∧ vI B 20 s = Int32.ofNat q) ∧ ∃ e, vI B 21 s = Int32.ofNat e ∧ t < e ∧ e ≤ t + 600
    rw [eN s (v := 13) (by decide), eN 0 (v := 1) (by decide), eJ s (v := 5) (by decide), eN 0 (v := 0) (by decide), eI s (v := 20) (by decide), eI s (v := 21) (by decide)]
    exact h1 s hs
  · rw [eN 0 (v := 1) (by decide)] at ha
    rw [eJ a (v := 2) (by decide), eJ a (v := 1) (by decide), s0]
    have e : (fun s => if vN B 13 s = a + 1 then (vJ B 5 s).toInt else 0) = (fun s => if vN A 13 s = a + 1 then (vJ A 5 s).toInt else 0) := by
      funext s
      rw [eN s (v := 13) (by decide), eJ s (v := 5) (by decide)]
    rw [e]
    exact h2 a ha
  · rw [s0] at hr
    rw [eL r (v := 4) (by decide) (by decide), eL r (v := 5) (by decide) (by decide), eL r (v := 6) (by decide) (by decide)]
    exact h3 r hr
  · rw [eN 0 (v := 4) (by decide)] at hk
    rw [eN k (v := 15) (by decide), eN 0 (v := 5) (by decide)]
    exact h4 k hk
  · have e : vI B 64 = vI A 64 := funext fun i => eI i (by decide)
    rw [e]
    rcases f6 c with g | g
    · rw [g] at h4 ⊢
      exact h5 c hc1 hc8 h4
    · rw [g] at h4
      omega
  · refine ⟨?_, fun p => ?_⟩
    · rw [eL 0 (v := 1) (by decide) (by decide)]; exact h6.1
    · rw [eL p (v := 2) (by decide) (by decide)]; exact h6.2 p
  · rw [eL 0 (v := 0) (by decide) (by decide)]; exact h7
  · rw [eN 0 (v := 16) (by decide)]; exact h8 r hr
/-- the second begins -/
def fn_nx (A : w_A) : w_A := sN A 5 0 (vN A 5 0 + 1)
theorem C_nx {n : Nat} {A : w_A} (h : z_C n A) (hn : vN A 5 0 + 1 ≤ 200000) : z_C n (fn_nx A) := by
  obtain ⟨⟨⟨b1, b2⟩, hL, hQ⟩, hlk, hpp⟩ := h
  exact ⟨⟨⟨⟨b1.1, b1.2.1, b1.2.2.1, b1.2.2.2.1, b1.2.2.2.2.1, hn⟩, b2⟩, hL, hQ⟩, hlk, hpp⟩
theorem tbd_nx {A : w_A} (h : z_tm A) : z_tbd (fn_nx A) := fun p => by
  show vN A 8 p ≤ vN A 5 0 + 1 + 30 ∧ vN A 7 p ≤ vN A 5 0 + 1 + 10
  have := h.1 p
  omega
theorem tq_nx {A : w_A} (h : z_tm A) : z_tq 0 (fn_nx A) := fun p hp => by
  have := h.2 p hp
  refine ⟨fun g => absurd g (Nat.not_lt_zero p), fun _ => ?_⟩
  show vN A 5 0 + 1 ≤ vN A 8 p ∧ (fn_given A p → vN A 5 0 + 1 ≤ vN A 7 p)
  exact ⟨this.1, this.2⟩
theorem sx_nx {A : w_A} (h : z_st A) : z_sx (vN A 5 0) 0 (fn_nx A) := by
  obtain ⟨h1, h2, h3, h4, h5, h6, h7, h8⟩ := h
  refine ⟨h1, h2, h3, fun k hk => ?_, h5, h6, h7, h8, fun r hr => absurd hr (Nat.not_lt_zero r)⟩
  have := h4 k hk
  show vN A 15 k ≤ vN A 5 0 + 1
  omega
theorem pts_tm {A : w_A} (hb : z_tbd A) (hq : z_tq (vN A 0 0) A) : z_tm A := ⟨hb, fun p hp => (hq p hp).1 hp⟩
theorem fn_sec_eq (A : w_A) : fn_sec A = fn_sts (vN (fn_pts (vN (fn_nx A) 0 0) 0 (fn_nx A) 0).1 2 0) 0 (fn_pts (vN (fn_nx A) 0 0) 0 (fn_nx A) 0).1 (fn_pts (vN (fn_nx A) 0 0) 0 (fn_nx A) 0).2 := rfl
/-- the peers of a second: what holds behind them -/
theorem sec_pts {n : Nat} {A : w_A} (h : z_W n A) (hn : vN A 5 0 + 1 ≤ 200000) (hm : n + 512 < 2147483648) : z_C (n + 512) (fn_pts (vN (fn_nx A) 0 0) 0 (fn_nx A) 0).1 ∧ z_tm (fn_pts (vN (fn_nx A) 0 0) 0 (fn_nx A) 0).1 ∧ z_sx (vN A 5 0) 0 (fn_pts (vN (fn_nx A) 0 0) 0 (fn_nx A) 0).1 ∧ z_fr (fn_nx A) (fn_pts (vN (fn_nx A) 0 0) 0 (fn_nx A) 0).1 := by
  have hp4 : vN (fn_nx A) 0 0 ≤ 4 := h.1.1.1.1.1
  obtain ⟨a1, a2, a3, a4⟩ := pts_keep (vN (fn_nx A) 0 0) 0 n 0 (fn_nx A) (Nat.zero_add _) (C_nx h.1 hn) (tbd_nx h.2.1) (tq_nx h.2.1) (by omega)
  have hP : vN (fn_pts (vN (fn_nx A) 0 0) 0 (fn_nx A) 0).1 0 0 = vN (fn_nx A) 0 0 := a4.2.2.2.1 _ _ (.inl (by decide))
  refine ⟨C_mono (by omega) a1, pts_tm a2 ?_, fr_sx a4 (sx_nx h.2.2), a4⟩
  rw [hP]
  rw [Nat.zero_add] at a3
  exact a3
theorem sx_st {A : w_A} {t : Nat} (ht : t + 1 = vN A 5 0) (h : z_sx t (vN A 2 0) A) : z_st A := by
  obtain ⟨h1, h2, h3, h4, h5, h6, h7, h8, h9⟩ := h
  refine ⟨fun s hs => ?_, h2, h3, h4, h5, h6, h7, h8⟩
  obtain ⟨g1, g2, g3, g4, e, e1, e2, e3⟩ := h1 s hs
  have e2 : t < e := e2
  have e3 : e ≤ t + 600 := e3
  have e1 : vI A 21 s = Int32.ofNat e := e1
  have ne : ¬ e = vN A 5 0 := fun g => h9 s hs hs (by rw [e1, g])
  exact ⟨g1, g2, g3, g4, e, e1, by omega, by omega⟩
theorem W_sec {n : Nat} {A : w_A} (h : z_W n A) (hn : vN A 5 0 + 1 ≤ 200000) (hm : n + 512 < 2147483648) : z_W (n + 512) (fn_sec A).1 ∧ vN (fn_sec A).1 5 0 = vN A 5 0 + 1 ∧ vN (fn_sec A).1 0 0 = vN A 0 0 := by
  obtain ⟨a1, a2, a3, a4⟩ := sec_pts h hn hm
  rw [fn_sec_eq]
  have hN : vN (fn_pts (vN (fn_nx A) 0 0) 0 (fn_nx A) 0).1 5 0 = vN A 5 0 + 1 := a4.2.2.2.1 _ _ (.inl (by decide))
  have hP : vN (fn_pts (vN (fn_nx A) 0 0) 0 (fn_nx A) 0).1 0 0 = vN A 0 0 := a4.2.2.2.1 _ _ (.inl (by decide))
  generalize fn_pts (vN (fn_nx A) 0 0) 0 (fn_nx A) 0 = r at *
  obtain ⟨b1, b2, b3, b4, b5⟩ := sts_keep (vN A 5 0) (vN r.1 2 0) 0 (n + 512) r.2 r.1 (Nat.zero_add _) a1 a2 a3
  exact ⟨⟨b1, b2, sx_st (by rw [b4, hN]) b3⟩, by rw [b4, hN], by rw [b5, hP]⟩
theorem tick_s (f : Nat) (A : w_A) (d : Nat) : fn_tick (f + 1) A d = fn_tick f (fn_sec A).1 (d + (fn_sec A).2) := rfl
theorem W_tick : ∀ (f n d : Nat) (A : w_A), z_W n A → vN A 5 0 + f ≤ 200000 → n + 512 * f < 2147483648 → z_W (n + 512 * f) (fn_tick f A d).1 ∧ vN (fn_tick f A d).1 5 0 = vN A 5 0 + f
  | 0, n, d, A, h, hn, hm => ⟨h, rfl⟩
  | f + 1, n, d, A, h, hn, hm => by
    obtain ⟨a, b, c⟩ := W_sec h (by omega) (by omega)
    have := W_tick f (n + 512) (d + (fn_sec A).2) (fn_sec A).1 a (by omega) (by omega)
    rw [tick_s]
    refine ⟨?_, by rw [this.2]; omega⟩
    rw [show n + 512 * (f + 1) = n + 512 + 512 * f by omega]
    exact this.1
theorem sts_d : ∀ (f s d : Nat) (A : w_A), fn_sts f s A d = ((fn_sts f s A 0).1, d + (fn_sts f s A 0).2)
  | 0, s, d, A => rfl
  | f + 1, s, d, A => by
    rw [sts_s, sts_s]
    split
    · rw [sts_d f s (d + 1), sts_d f s (0 + 1)]
      exact Prod.ext rfl (by show d + 1 + _ = d + (0 + 1 + _); omega)
    · exact sts_d f (s + 1) d A
theorem pts_d : ∀ (f p d : Nat) (A : w_A), fn_pts f p A d = ((fn_pts f p A 0).1, d + (fn_pts f p A 0).2)
  | 0, p, d, A => rfl
  | f + 1, p, d, A => by
    rw [pts_s, pts_s, pts_d f (p + 1) (d + _), pts_d f (p + 1) (0 + _)]
    exact Prod.ext rfl (by show d + _ + _ = d + (0 + _ + _); omega)
