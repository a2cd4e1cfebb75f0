/-! PART 85d (src 85d.woctet.src): messages and octets keep what always holds -/
set_option maxHeartbeats 800000
theorem W_refuse {n : Nat} {A : w_A} (h : z_W n A) (c : Nat) (P : w_P) : z_W n (fn_refuse A c P) := W_send (W_page h _) c
theorem W_plain {n : Nat} {A : w_A} (h : z_W n A) (c : Nat) (P : w_P) (r : Int32) : z_W n (fn_plain A c P r) := W_send (W_page h _) c
theorem W_close {n : Nat} {A : w_A} (h : z_W n A) {c : Nat} (hc : vN A 11 c = 0) : z_W n (fn_close A c) := W_fr h (fr_close A c) (C_close h.1 hc)
theorem send_CPEER (A : w_A) (l : List Int32) (c d : Nat) : vN (fn_send (fn_page A l) c) 11 d = vN A 11 d := by rw [vN_send]; rfl
/-- a stranger is a peer's -/
theorem H_link {n : Nat} {A : w_A} (h : z_C n A) {c p : Nat} (h1 : 1 ≤ c) (h8 : c ≤ 8) (h0 : vN A 11 c = 0) (h2 : vI A 12 c = 2) (hp : p < 4) (hpp : p < vN A 0 0) (hc0 : vN A 10 p = 0) (f g e : Int32) : z_H n (sN (sN (sI (sI (sI (sI A 13 c 2) 8 p f) 9 p g) 10 p e) 11 c (p + 1)) 10 p c) p := by
  refine ⟨Ip_CAME (Ip_CPEER (Ip_sI (Ip_sI (Ip_sI (Ip_sI (I_p h.1 p) (by decide) (by decide) (by decide) (by decide) (by decide) _ _) (by decide) (by decide) (by decide) (by decide) (by decide) _ _) (by decide) (by decide) (by decide) (by decide) (by decide) _ _) (by decide) (by decide) (by decide) (by decide) (by decide) _ _) c (by omega)) h8, ⟨fun q hq hn => ?_, fun d d1 d8 => ?_, ?_⟩, ?_⟩
  · obtain ⟨⟨k1, k2, k3⟩, k4, k5⟩ := h.2.1.1 q hq
    have n1 : ¬ vN A 9 q = 0 → ¬ vN A 9 q = c := fun g e => by have := (k1 g).2.1; rw [e] at this; omega
    have n2 : ¬ vN A 10 q = 0 → ¬ vN A 10 q = c := fun g e => by have := (k2 g).2.1; rw [e] at this; omega
    unfold z_pk z_pl z_pc
    simp only [ev_rd, ev_st, aEl, z_w, z_cat, Nat.reduceMod, Nat.reduceDiv, Nat.reduceLeDiff, Nat.reduceLT, Nat.reduceAdd, Nat.reduceMul, Nat.reduceSub, Nat.reduceEqDiff, Int32.reduceLT, Int32.reduceLE, Int32.reduceAdd, Int32.reduceSub, Int32.reduceMul, true_and, and_true, false_and, and_false, true_or, or_true, false_or, or_false, not_true_eq_false, not_false_eq_true, if_true, if_false, reduceIte, ne_eq, and_self, or_self, reduceCtorEq, Option.some.injEq, Prod.mk.injEq, vI_sI, vN_sN, hn]
    refine ⟨⟨fun g => ?_, fun g => ?_, k3⟩, fun g => ?_, k5⟩
    · simp only [ev_rd, ev_st, aEl, z_w, z_cat, Nat.reduceMod, Nat.reduceDiv, Nat.reduceLeDiff, Nat.reduceLT, Nat.reduceAdd, Nat.reduceMul, Nat.reduceSub, Nat.reduceEqDiff, Int32.reduceLT, Int32.reduceLE, Int32.reduceAdd, Int32.reduceSub, Int32.reduceMul, true_and, and_true, false_and, and_false, true_or, or_true, false_or, or_false, not_true_eq_false, not_false_eq_true, if_true, if_false, reduceIte, ne_eq, and_self, or_self, reduceCtorEq, Option.some.injEq, Prod.mk.injEq, n1 g]; exact k1 g
    · simp only [ev_rd, ev_st, aEl, z_w, z_cat, Nat.reduceMod, Nat.reduceDiv, Nat.reduceLeDiff, Nat.reduceLT, Nat.reduceAdd, Nat.reduceMul, Nat.reduceSub, Nat.reduceEqDiff, Int32.reduceLT, Int32.reduceLE, Int32.reduceAdd, Int32.reduceSub, Int32.reduceMul, true_and, and_true, false_and, and_false, true_or, or_true, false_or, or_false, not_true_eq_false, not_false_eq_true, if_true, if_false, reduceIte, ne_eq, and_self, or_self, reduceCtorEq, Option.some.injEq, Prod.mk.injEq, n2 g]; exact k2 g
    · exact k4 g
  · have k := h.2.1.2 d d1 d8
    unfold z_ck at k ⊢
    simp only [ev_rd, ev_st, aEl, z_w, z_cat, Nat.reduceMod, Nat.reduceDiv, Nat.reduceLeDiff, Nat.reduceLT, Nat.reduceAdd, Nat.reduceMul, Nat.reduceSub, Nat.reduceEqDiff, Int32.reduceLT, Int32.reduceLE, Int32.reduceAdd, Int32.reduceSub, Int32.reduceMul, true_and, and_true, false_and, and_false, true_or, or_true, false_or, or_false, not_true_eq_false, not_false_eq_true, if_true, if_false, reduceIte, ne_eq, and_self, or_self, reduceCtorEq, Option.some.injEq, Prod.mk.injEq, vI_sI, vN_sN]
    by_cases x : d = c
    · subst x
      right
      simp only [ev_rd, ev_st, aEl, z_w, z_cat, Nat.reduceMod, Nat.reduceDiv, Nat.reduceLeDiff, Nat.reduceLT, Nat.reduceAdd, Nat.reduceMul, Nat.reduceSub, Nat.reduceEqDiff, Int32.reduceLT, Int32.reduceLE, Int32.reduceAdd, Int32.reduceSub, Int32.reduceMul, true_and, and_true, false_and, and_false, true_or, or_true, false_or, or_false, not_true_eq_false, not_false_eq_true, if_true, if_false, reduceIte, ne_eq, and_self, or_self, reduceCtorEq, Option.some.injEq, Prod.mk.injEq]
      exact ⟨p, hp, rfl, .inr (if_pos rfl)⟩
    · simp only [x, ev_rd, ev_st, aEl, z_w, z_cat, Nat.reduceMod, Nat.reduceDiv, Nat.reduceLeDiff, Nat.reduceLT, Nat.reduceAdd, Nat.reduceMul, Nat.reduceSub, Nat.reduceEqDiff, Int32.reduceLT, Int32.reduceLE, Int32.reduceAdd, Int32.reduceSub, Int32.reduceMul, true_and, and_true, false_and, and_false, true_or, or_true, false_or, or_false, not_true_eq_false, not_false_eq_true, if_true, if_false, reduceIte, ne_eq, and_self, or_self, reduceCtorEq, Option.some.injEq, Prod.mk.injEq]
      rcases k with k | ⟨q, hq, k1, k2⟩
      · exact .inl k
      · refine .inr ⟨q, hq, k1, ?_⟩
        rcases k2 with k2 | ⟨k2, k3⟩
        · exact .inl k2
        · refine .inr ⟨k2, ?_⟩
          by_cases y : q = p
          · subst y; omega
          · rw [if_neg y]; exact k3
  · obtain ⟨⟨k1, k2, k3⟩, k4, k5⟩ := h.2.1.1 p hp
    have n1 : ¬ vN A 9 p = 0 → ¬ vN A 9 p = c := fun g e => by have := (k1 g).2.1; rw [e] at this; omega
    unfold z_pl
    simp only [ev_rd, ev_st, aEl, z_w, z_cat, Nat.reduceMod, Nat.reduceDiv, Nat.reduceLeDiff, Nat.reduceLT, Nat.reduceAdd, Nat.reduceMul, Nat.reduceSub, Nat.reduceEqDiff, Int32.reduceLT, Int32.reduceLE, Int32.reduceAdd, Int32.reduceSub, Int32.reduceMul, true_and, and_true, false_and, and_false, true_or, or_true, false_or, or_false, not_true_eq_false, not_false_eq_true, if_true, if_false, reduceIte, ne_eq, and_self, or_self, reduceCtorEq, Option.some.injEq, Prod.mk.injEq, vI_sI, vN_sN]
    refine ⟨fun g => ?_, fun _ => ⟨h8, h2⟩, .inl hpp⟩
    simp only [ev_rd, ev_st, aEl, z_w, z_cat, Nat.reduceMod, Nat.reduceDiv, Nat.reduceLeDiff, Nat.reduceLT, Nat.reduceAdd, Nat.reduceMul, Nat.reduceSub, Nat.reduceEqDiff, Int32.reduceLT, Int32.reduceLE, Int32.reduceAdd, Int32.reduceSub, Int32.reduceMul, true_and, and_true, false_and, and_false, true_or, or_true, false_or, or_false, not_true_eq_false, not_false_eq_true, if_true, if_false, reduceIte, ne_eq, and_self, or_self, reduceCtorEq, Option.some.injEq, Prod.mk.injEq, n1 g]
    exact k1 g
  · refine ph_cong (A := A) ⟨fun _ => rfl, fun _ => rfl, fun _ => rfl, fun _ => rfl, fun _ => rfl, fun _ => rfl, fun _ => rfl, fun _ => rfl, fun _ => rfl⟩ (fun q hq => ⟨rfl, ?_⟩) (pp_ph h.2.2 p)
    rw [vN_sN, if_neg (fun g => hq g.2)]
    rfl
theorem W_strange {n : Nat} {A : w_A} (h : z_W n A) (hn : n + 64 < 2147483648) {c : Nat} (h1 : 1 ≤ c) (h8 : c ≤ 8) (h0 : vN A 11 c = 0) (h2 : vI A 12 c = 2) (P : w_P) : z_W (n + 64) (fn_strange A c P) := by
  refine W_fr h (fr_strange A c P) ?_
  have hp4 := h.1.1.1.1.1
  have cl : ∀ l, z_C (n + 64) (fn_close (fn_send (fn_page A l) c) c) := fun l => C_mono (by omega) (C_close (C_send (C_page h.1 l) c) (by rw [send_CPEER]; exact h0))
  unfold fn_strange
  split
  · exact cl _
  split
  · exact C_mono (by omega) (C_close (C_lost h.1) h0)
  split
  · exact cl _
  · rename_i p hl
    have hpp := (last_some hl).1
    have hp : p < 4 := by omega
    split
    · exact cl _
    split
    · exact cl _
    rename_i hst
    have hk := h.1.2.1.1 p hp
    have hps := hk.2.2
    have hc0 : vN A 10 p = 0 := by
      rcases hps with g | g | g | g | g | g | g | g
      · exact g.2.2
      · exact g.2.2
      · exact g.2.2
      all_goals (rw [g.1] at hst; exact absurd (by decide) hst)
    have hH := H_link h.1 h1 h8 h0 h2 hp hpp hc0 (pF P) (pH P) (pE P)
    have eo : vN (sN (sN (sI (sI (sI (sI A 13 c 2) 8 p (pF P)) 9 p (pH P)) 10 p (pE P)) 11 c (p + 1)) 10 p c) 9 p = vN A 9 p := rfl
    have ec : vN (sN (sN (sI (sI (sI (sI A 13 c 2) 8 p (pF P)) 9 p (pH P)) 10 p (pE P)) 11 c (p + 1)) 10 p c) 10 p = c := by rw [vN_sN, if_pos ⟨rfl, rfl⟩]
    have es : ∀ x, vI (sN (sN (sI (sI (sI (sI A 13 c 2) 8 p (pF P)) 9 p (pH P)) 10 p (pE P)) 11 c (p + 1)) 10 p c) 12 x = vI A 12 x := fun _ => rfl
    have eS : vI (sN (sN (sI (sI (sI (sI A 13 c 2) 8 p (pF P)) 9 p (pH P)) 10 p (pE P)) 11 c (p + 1)) 10 p c) 0 p = vI A 0 p := rfl
    have eO : vI (sN (sN (sI (sI (sI (sI A 13 c 2) 8 p (pF P)) 9 p (pH P)) 10 p (pE P)) 11 c (p + 1)) 10 p c) 5 p = vI A 5 p := rfl
    dsimp only
    generalize sN (sN (sI (sI (sI (sI A 13 c 2) 8 p (pF P)) 9 p (pH P)) 10 p (pE P)) 11 c (p + 1)) 10 p c = B at *
    have hcz : ¬ vN B 10 p = 0 := by rw [ec]; omega
    split
    · rename_i s0
      rw [s0] at hps
      have ho : vN A 9 p = 0 := by rcases hps with g | g | g | g | g | g | g | g <;> first | exact g.2.1 | exact absurd g.1 (by decide)
      exact C_opened hp hn hH (eo.trans ho) hcz (up_not (eS.trans s0) (by decide) (by decide))
    · rename_i s0
      split
      · rename_i s1
        rw [s1] at hps
        have ho : ¬ vN A 9 p = 0 := by rcases hps with g | g | g | g | g | g | g | g <;> first | exact absurd g.1 (by decide) | exact g.2.1
        refine C_enter hp hn hH (.inr (.inr (.inr (.inl ⟨rfl, by rw [eo]; exact ho, hcz⟩)))) (fun _ => ?_) (fun g => absurd g (up_not (eS.trans s1) (by decide) (by decide))) (fun g => g.elim (fun g => absurd g (by decide)) (fun g => absurd g (by decide)))
        rw [eo, es]
        have := hk.2.1 ho
        rw [s1] at this
        exact ⟨fun _ => .inr rfl, fun _ => this.mpr (.inl rfl)⟩
      · rename_i s1
        have s2 : vI A 0 p = 2 := by
          rcases hps with g | g | g | g | g | g | g | g
          · exact absurd g.1 s0
          · exact absurd g.1 s1
          · exact g.1
          all_goals (rw [g.1] at hst; exact absurd (by decide) hst)
        rw [s2] at hps
        have ho : ¬ vN A 9 p = 0 := by rcases hps with g | g | g | g | g | g | g | g <;> first | exact absurd g.1 (by decide) | exact g.2.1
        have hcst : vI A 12 (vN A 9 p) = 2 := by
          have k1 := (hk.1.1 ho).2.2.2
          have k2 := hk.2.1 ho
          rw [s2] at k2
          rcases k1 with k1 | k1
          · exact (k2.mp k1).elim (fun g => absurd g (by decide)) (fun g => absurd g (by decide))
          · exact k1
        exact C_choose hp hn hH (by rw [eo]; exact ho) hcz (by rw [eo, es]; exact hcst) (up_not (eS.trans s2) (by decide) (by decide)) (by rw [eO]; exact (h.1.2.2.2.2.2 p).1 (.inl s2))
/-- of an own connection that is there -/
theorem own_24 {n : Nat} {A : w_A} (h : z_C n A) {p : Nat} (hp : p < 4) (hs : vI A 0 p = 2 ∨ vI A 0 p = 4) : ¬ vN A 9 p = 0 ∧ vI A 12 (vN A 9 p) = 2 ∧ ¬ fn_up A p := by
  have hk := h.2.1.1 p hp
  have hps := hk.2.2
  have ho : ¬ vN A 9 p = 0 := by
    rcases hs with s | s <;> rw [s] at hps <;> rcases hps with g | g | g | g | g | g | g | g <;> first | exact absurd g.1 (by decide) | exact g.2.1
  refine ⟨ho, ?_, fun g => ?_⟩
  · have k1 := (hk.1.1 ho).2.2.2
    have k2 := hk.2.1 ho
    rcases k1 with k1 | k1
    · have := k2.mp k1
      rcases hs with s | s <;> rw [s] at this <;> exact this.elim (fun g => absurd g (by decide)) (fun g => absurd g (by decide))
    · exact k1
  · unfold fn_up at g
    rcases hs with s | s <;> rw [s] at g <;> exact g.elim (fun g => absurd g (by decide)) (fun g => absurd g (by decide))
theorem W_asking {n : Nat} {A : w_A} (h : z_W n A) (hn : n + 64 < 2147483648) {p : Nat} (hp : p < 4) (hs : vI A 0 p = 2 ∨ vI A 0 p = 4) (P : w_P) : z_W (n + 64) (fn_asking A p P) := by
  refine W_fr h (fr_asking A p P) ?_
  obtain ⟨ho, hc2, hu⟩ := own_24 h.1 hp hs
  have hk := h.1.2.1.1 p hp
  unfold fn_asking
  split
  · have hH := H_closeCame hp (C_H h.1 hp)
    have oo : vN (fn_closeCame A p) 9 p = vN A 9 p := closeCame_OWN _ _ _
    have cs : vI (fn_closeCame A p) 12 (vN A 9 p) = vI A 12 (vN A 9 p) := by
      unfold fn_closeCame
      split
      · rfl
      · rename_i hc
        unfold fn_close
        have : ¬ vN A 9 p = vN A 10 p := fun e => by
          have r1 := (hk.1.1 ho).2.2.1
          rw [e, (hk.1.2.1 hc).2.2.1] at r1
          exact absurd r1 (by decide)
        simp only [ev_rd, ev_st, aEl, z_w, z_cat, Nat.reduceMod, Nat.reduceDiv, Nat.reduceLeDiff, Nat.reduceLT, Nat.reduceAdd, Nat.reduceMul, Nat.reduceSub, Nat.reduceEqDiff, Int32.reduceLT, Int32.reduceLE, Int32.reduceAdd, Int32.reduceSub, Int32.reduceMul, true_and, and_true, false_and, and_false, true_or, or_true, false_or, or_false, not_true_eq_false, not_false_eq_true, if_true, if_false, reduceIte, ne_eq, and_self, or_self, reduceCtorEq, Option.some.injEq, Prod.mk.injEq, this]
    refine C_enter hp hn hH ?_ (fun _ => ?_) (fun g => absurd ((closeCame_up A p p).mp g) hu) (fun g => g.elim (fun g => absurd g (by decide)) (fun g => absurd g (by decide)))
    · rw [oo, closeCame_0]
      exact .inr (.inr (.inr (.inr (.inr (.inr (.inl ⟨rfl, ho, rfl⟩))))))
    · rw [oo, cs, hc2]
      decide
  · have := (hk.1.1 ho).1
    exact C_end (C_lost h.1) hn (c := vN A 9 p) (by omega) this
theorem W_ending {n : Nat} {A : w_A} (h : z_W n A) (hn : n + 64 < 2147483648) {p : Nat} (hp : p < 4) (P : w_P) : z_W (n + 64) (fn_ending A p P) := by
  refine W_fr h (fr_ending A p P) ?_
  unfold fn_ending
  split
  · exact C_shut hp hn (C_H h.1 hp)
  · exact C_mono (by omega) (C_lost h.1)
theorem C_up7 {n : Nat} {A : w_A} (h : z_C n A) (hn : n + 64 < 2147483648) {p : Nat} (hp : p < 4) (hu : fn_up A p) : z_C (n + 64) (fn_enter A p 7) := by
  have hk := h.2.1.1 p hp
  have hps := hk.2.2
  refine C_enter hp hn (C_H h hp) ?_ (fun ho => ?_) (fun _ => by decide) (fun g => g.elim (fun g => absurd g (by decide)) (fun g => absurd g (by decide)))
  · refine .inr (.inr (.inr (.inr (.inr (.inr (.inr ⟨rfl, ?_⟩))))))
    rcases hu with s | s <;> rw [s] at hps
    · rcases hps with g | g | g | g | g | g | g | g <;> first | exact absurd g.1 (by decide) | exact .inl g.2
    · rcases hps with g | g | g | g | g | g | g | g <;> first | exact absurd g.1 (by decide) | exact .inr g.2
  · have k1 := (hk.1.1 ho).2.2.2
    have k2 := hk.2.1 ho
    have k3 : vI A 12 (vN A 9 p) = 2 := by
      rcases k1 with k1 | k1
      · have := k2.mp k1
        rcases hu with s | s <;> rw [s] at this <;> exact this.elim (fun g => absurd g (by decide)) (fun g => absurd g (by decide))
      · exact k1
    rw [k3]
    decide
theorem C_STAT {n : Nat} {A : w_A} (h : z_C n A) {p : Nat} (hu : fn_up A p) {s : Int32} (hs : s = 1 ∨ s = 2 ∨ s = 4) : z_C n (sI A 1 p s) := by
  refine ⟨I_sI h.1 (by decide) (by decide) (by decide) (by decide) (by decide) _ _, h.2.1, ?_⟩
  obtain ⟨h1, h2, h3, h4⟩ := h.2.2
  refine ⟨fun q => ?_, h2, h3, h4⟩
  rw [vI_sI]
  by_cases e : q = p
  · rw [if_pos ⟨rfl, e⟩, e]
    exact ⟨fun _ => hu, fun _ => hs⟩
  · rw [if_neg (fun g => e g.2)]
    exact h1 q
theorem C_AWAIT {n : Nat} {A : w_A} (h : z_C n A) (p : Nat) : z_C n (sI A 2 p 0) := by
  refine ⟨I_sI h.1 (by decide) (by decide) (by decide) (by decide) (by decide) _ _, h.2.1, ?_⟩
  obtain ⟨h1, h2, h3, h4⟩ := h.2.2
  refine ⟨h1, fun q => ?_, h3, h4⟩
  rw [vI_sI]
  split
  · exact fun g => absurd rfl g
  · exact h2 q
theorem C_ANSW {n : Nat} {A : w_A} (h : z_C n A) (p : Nat) (x : Int32) : z_C n (sI A 4 p x) := ⟨I_sI h.1 (by decide) (by decide) (by decide) (by decide) (by decide) _ _, h.2.1, h.2.2⟩
theorem C_DUE {n : Nat} {A : w_A} (h : z_C n A) (p x : Nat) : z_C n (sN A 8 p x) := ⟨I_sN h.1 (by decide) _ _, h.2.1, h.2.2⟩
theorem W_askAns {n : Nat} {A : w_A} (h : z_W n A) (p : Nat) (P : w_P) : z_W n (fn_askAns A p P) := by
  refine W_fr h (fr_askAns A p P) ?_
  unfold fn_askAns
  split
  · rename_i i hi
    have hi := (fn_first_some hi).1
    refine ⟨res_Inv h.1.1 hi _, h.1.2.1, ?_⟩
    obtain ⟨h1, h2, h3, h4⟩ := h.1.2.2
    refine ⟨h1, h2, h3, fun q => ⟨(h4 q).1, res_q1 ?_ (h4 q).2⟩⟩
    split
    · decide
    · rename_i hlt
      intro e
      rw [e] at hlt
      exact absurd (by decide) hlt
  · exact C_lost h.1
theorem W_work {n : Nat} {A : w_A} (h : z_W n A) (hn : n + 64 < 2147483648) {p : Nat} (hp : p < 4) (hpp : p < vN A 0 0) (hu : fn_up A p) (c : Nat) {P : w_P} (hr : z_rP (vI A 64) P) : z_W (n + 64) (fn_work A c p P) := by
  unfold fn_work
  split
  · exact W_mono (by omega) (W_askAns h p P)
  split
  · exact W_mono (by omega) (W_refuse h c P)
  split
  · exact W_mono (by omega) (W_plain h c P _)
  split
  · exact W_mono (by omega) (W_send (W_page h _) c)
  split
  · have h1 := W_plain h c P 2001
    have e : ∀ q, vI (fn_plain A c P 2001) 0 q = vI A 0 q := fun q => by unfold fn_plain; rw [vI_send _ _ (by decide)]; rfl
    generalize fn_plain A c P 2001 = B at *
    have h2 : z_C n (sI B 7 p 0) := ⟨I_sI h1.1.1 (by decide) (by decide) (by decide) (by decide) (by decide) _ _, h1.1.2.1, pp_sEHOP h1.1.2.2 p (by decide)⟩
    exact W_fr h1 (fr_trans (fr_I B (by decide) (by decide) (by decide) _ _) (fr_enter _ p 7)) (C_up7 h2 hn hp ((up_cong (e p)).mpr hu))
  · exact W_mono (by omega) (W_credit h hr hpp c)
theorem W_heard {n : Nat} {A : w_A} (h : z_W n A) (hn : n + 64 < 2147483648) {p : Nat} (hp : p < 4) (hpp : p < vN A 0 0) (hu : fn_up A p) (c : Nat) {P : w_P} (hr : z_rP (vI A 64) P) : z_W (n + 64) (fn_heard A c p P) := by
  unfold fn_heard
  have fA : z_fr A (sI A 2 p 0) := fr_I A (by decide) (by decide) (by decide) _ _
  split
  · dsimp only
    split
    · exact W_mono (by omega) (W_fr h (fr_sI (fr_trans fA (fr_DUE (sI A 2 p 0) p rfl)) (by decide) (by decide) (by decide) _ _) (C_STAT (C_DUE (C_AWAIT h.1 p) _ _) hu (.inl rfl)))
    · split
      · exact W_mono (by omega) (W_fr h (fr_sI (fr_sI fA (by decide) (by decide) (by decide) _ _) (by decide) (by decide) (by decide) _ _) (C_STAT (C_ANSW (C_AWAIT h.1 p) _ _) hu (.inl rfl)))
      · exact W_mono (by omega) (W_fr h (fr_sI fA (by decide) (by decide) (by decide) _ _) (C_ANSW (C_AWAIT h.1 p) _ _))
  split
  · have h1 : z_W n (sI (sN A 8 p (vN A 5 0 + 30)) 1 p 1) := W_fr h (fr_sI (fr_DUE A p rfl) (by decide) (by decide) (by decide) _ _) (C_STAT (C_DUE h.1 _ _) hu (.inl rfl))
    exact W_work h1 hn hp hpp hu c hr
  split
  · exact W_mono (by omega) (W_lost h)
  · exact W_work h hn hp hpp hu c hr
theorem peer_lt {n : Nat} {A : w_A} (h : z_W n A) {c : Nat} (h1 : 1 ≤ c) (h8 : c ≤ 8) (hz : ¬ vN A 11 c = 0) : vN A 11 c - 1 < 4 ∧ vN A 11 c - 1 < vN A 0 0 := by
  rcases h.1.2.1.2 c h1 h8 with k | ⟨p, hp, k1, k2⟩
  · exact absurd k.1 hz
  · have e : vN A 11 c - 1 = p := by omega
    rw [e]
    refine ⟨hp, ?_⟩
    have := (h.1.2.1.1 p hp).1.2.2
    rcases this with g | g
    · exact g
    · rcases k2 with k2 | k2
      · have := k2.2; omega
      · have := k2.2; omega
theorem W_hear {n : Nat} {A : w_A} (h : z_W n A) (hn : n + 64 < 2147483648) {c : Nat} (h1 : 1 ≤ c) (h8 : c ≤ 8) (h2 : vI A 12 c = 2) {P : w_P} (hr : z_rP (vI A 64) P) : z_W (n + 64) (fn_hear A c P) := by
  unfold fn_hear
  split
  · rename_i hz
    exact W_strange h hn h1 h8 hz h2 P
  · rename_i hz
    obtain ⟨hp, hpp⟩ := peer_lt h h1 h8 hz
    dsimp only
    split
    · rename_i hu
      exact W_heard h hn hp hpp hu c hr
    split
    · exact W_ending h hn hp P
    split
    · rename_i hs
      exact W_asking h hn hp hs.1 P
    · exact W_mono (by omega) (W_lost h)
/-! octets -/
theorem W_P {n : Nat} {A : w_A} (h : z_W n A) (x : Option w_P) : z_W n (sP A x) := h
theorem byte_nb (a b c d : Int64) (k : Nat) : nb (fn_byte a b c d k) = fn_byte a b c d k := nb_nb _
theorem close_INL (B : w_A) (c y : Nat) : fn_close (sN B 14 c y) c = fn_close B c := by
  unfold fn_close
  show sN (sN (sN (sI (sI B 12 c 0) 13 c 0) 14 c y) 11 c 0) 14 c 0 = _
  rw [sN_or _ (show 11 < 14 by decide), sN_sN]
theorem end_INL {B : w_A} {c : Nat} (h1 : 1 ≤ c) (hk : z_ck B c) (y : Nat) : fn_end (sN B 14 c y) c = fn_end B c := by
  have e0 : vN (sN B 14 c y) 11 c = vN B 11 c := rfl
  unfold fn_end
  rw [e0]
  by_cases hz : vN B 11 c = 0
  · rw [if_pos hz, if_pos hz, close_INL]
  rw [if_neg hz, if_neg hz]
  rcases hk with k | ⟨p, hp, k1, k2⟩
  · exact absurd k.1 hz
  have ep : vN B 11 c - 1 = p := by omega
  dsimp only
  rw [ep]
  have er : vI (sN B 14 c y) 13 c = vI B 13 c := rfl
  have es : vI (sN B 14 c y) 0 p = vI B 0 p := rfl
  rw [er, es]
  rcases k2 with ⟨kr, ko⟩ | ⟨kr, ko⟩
  · have e : fn_closeOwn (sN B 14 c y) p = fn_closeOwn B p := by
      have hc0 : ¬ c = 0 := by omega
      unfold fn_closeOwn
      rw [show vN (sN B 14 c y) 9 p = c from ko, ko, if_neg hc0, if_neg hc0, close_INL]
    simp only [kr, if_true, eq_self, e]
  · have e : fn_closeCame (sN B 14 c y) p = fn_closeCame B p := by
      have hc0 : ¬ c = 0 := by omega
      unfold fn_closeCame
      rw [show vN (sN B 14 c y) 10 p = c from ko, ko, if_neg hc0, if_neg hc0, close_INL]
    have k21 : ¬ vI B 13 c = 1 := by rw [kr]; decide
    simp only [k21, if_false, e]
theorem W_octet {n : Nat} {A : w_A} (h : z_W n A) (hn : n + 64 < 2147483648) {c : Nat} (h1 : 1 ≤ c) (h8 : c ≤ 8) (h2 : vI A 12 c = 2) {x : Int32} (hx : nb x = x) : z_W (n + 64) (fn_octet A c x).1 := by
  have hl6 := (h.1.1.1.2.2.2.1 c).2
  have hin := h.2.2.2.2.2.2.1 c h1 h8
  let m := vN A 14 c
  let B := sN (sI A 64 (600 * c + m) x) 14 c (m + 1)
  have eINB : ∀ k, vI B 64 k = if k = 600 * c + m then x else vI A 64 k := fun k => by
    show vI (sI A 64 (600 * c + m) x) 64 k = _
    rw [vI_sI]
    by_cases e : k = 600 * c + m
    · rw [if_pos ⟨rfl, e⟩, if_pos e]
    · rw [if_neg (fun g => e g.2), if_neg e]
  have eI : ∀ {v : Nat} (i : Nat), v ≠ 64 → vI B v i = vI A v i := fun {v} i hv => by
    show vI (sI A 64 (600 * c + m) x) v i = _
    rw [vI_sI, if_neg (fun g => hv g.1)]
  have eINL : ∀ d, vN B 14 d = if d = c then m + 1 else vN A 14 d := fun d => by
    show vN (sN (sI A 64 (600 * c + m) x) 14 c (m + 1)) 14 d = _
    rw [vN_sN]
    by_cases e : d = c
    · rw [if_pos ⟨rfl, e⟩, if_pos e]
    · rw [if_neg (fun g => e g.2), if_neg e]
      rfl
  have eN : ∀ {v : Nat} (i : Nat), v ≠ 14 → vN B v i = vN A v i := fun {v} i hv => by
    show vN (sN (sI A 64 (600 * c + m) x) 14 c (m + 1)) v i = _
    rw [vN_sN, if_neg (fun g => hv g.1)]
    rfl
  -- the buffers but for c's
  have hIB : ∀ k, nb (vI B 64 k) = vI B 64 k := fun k => by
    rw [eINB]
    split
    · exact hx
    · exact h.1.1.1.2.2.2.2.2.2.2.2.2.2.2.2 k
  have eu : ∀ d k, ¬ d = c → 1 ≤ d → d ≤ 8 → k < 600 → u8 (vI B 64) d k = u8 (vI A 64) d k := fun d k hd _ _ hk => by
    unfold u8
    rw [eINB, if_neg (by omega)]
  have hinB : ∀ d, ¬ d = c → 1 ≤ d → d ≤ 8 → 4 ≤ vN B 14 d → ∃ m, n3 (vI B 64) d 1 = Int32.ofNat m ∧ 20 ≤ m ∧ m ≤ 600 ∧ m % 4 = 0 ∧ vN B 14 d < m := fun d hd d1 d8 g => by
    rw [eINL, if_neg hd] at g ⊢
    have e : n3 (vI B 64) d 1 = n3 (vI A 64) d 1 := by
      unfold n3
      rw [eu d 1 hd d1 d8 (by decide), eu d (1 + 1) hd d1 d8 (by decide), eu d (1 + 2) hd d1 d8 (by decide)]
    rw [e]
    exact h.2.2.2.2.2.2.1 d d1 d8 g
  -- with a length for c
  have base : ∀ (y : Nat), y < 600 → (4 ≤ y → ∃ m, n3 (vI B 64) c 1 = Int32.ofNat m ∧ 20 ≤ m ∧ m ≤ 600 ∧ m % 4 = 0 ∧ y < m) → z_W n (sN B 14 c y) := by
    intro y hy hg
    obtain ⟨⟨⟨b, hL, hQ⟩, hlk, hpp⟩, ht, s1, s2, s3, s4, s5, s6, s7, s8⟩ := h
    obtain ⟨b1, b2, b3, b4, b5, b6, b7, b8, b9, b10, b11, b12, b13⟩ := b
    refine ⟨⟨⟨⟨b1, b2, b3, fun d => ⟨(b4 d).1, ?_⟩, b5, b6, b7, b8, b9, b10, b11, b12, hIB⟩, hL, hQ⟩, hlk, hpp⟩, ht, s1, s2, s3, s4, fun d d1 d8 g => ?_, s6, s7, s8⟩
    · rw [vN_sN]
      by_cases e : d = c
      · rw [if_pos ⟨rfl, e⟩]; exact hy
      · rw [if_neg (fun g => e g.2), eINL, if_neg e]; exact (b4 d).2
    · show ∃ m, n3 (vI B 64) d 1 = Int32.ofNat m ∧ 20 ≤ m ∧ m ≤ 600 ∧ m % 4 = 0 ∧ vN (sN B 14 c y) 14 d < m
      by_cases e : d = c
      · subst e
        have ey : vN (sN B 14 d y) 14 d = y := by rw [vN_sN, if_pos ⟨rfl, rfl⟩]
        rw [ey] at g ⊢
        exact hg g
      · have ey : vN (sN B 14 c y) 14 d = vN B 14 d := by rw [vN_sN, if_neg (fun g => e g.2)]
        rw [ey] at g ⊢
        exact hinB d e d1 d8 g
  have self : ∀ y, sN B 14 c y = sN (sI A 64 (600 * c + m) x) 14 c y := fun y => sN_sN _ _ _ _ _
  have BB : sN B 14 c (m + 1) = B := sN_sN _ _ _ _ _
  unfold fn_octet
  dsimp only
  show z_W (n + 64) (if m + 1 < 4 then (B, 0) else if n3 (vI B 64) c 1 < 20 ∨ 600 < n3 (vI B 64) c 1 ∨ (n3 (vI B 64) c 1).toNatClampNeg % 4 ≠ 0 then (fn_end B c, 0) else if n3 (vI B 64) c 1 = Int32.ofNat (m + 1) then (sP (fn_hear (sP (sN B 14 c 0) (some (fn_read (vI (sN B 14 c 0) 64) c (m + 1)))) c (fn_read (vI (sN B 14 c 0) 64) c (m + 1))) none, 1) else (B, 0)).1
  have hck : z_ck B c := sm_ck (A := A) (B := B) ⟨fun p => eN p (by decide), fun p => eN p (by decide), fun c => eN c (by decide), fun c => eI c (by decide), fun c => eI c (by decide), eN 0 (by decide)⟩ (h.1.2.1.2 c h1 h8)
  have hg3 := gv3_lt (vI B 64) c 1
  have hn3 := n3_io (vI B 64) c 1
  generalize hgv : gv (vI B 64) c 1 3 = w at *
  split
  · rename_i h4
    have := base (m + 1) (by omega) (fun g => by omega)
    rw [BB] at this
    exact W_mono (by omega) this
  split
  · -- closed
    have hz := base 0 (by decide) (fun g => by omega)
    rename_i h4 hbad
    have he := W_end hz hn h1 h8
    have eqe : fn_end (sN B 14 c 0) c = fn_end B c := end_INL h1 hck 0
    rw [← eqe]
    exact he
  · rename_i h4 hok
    rw [hn3] at hok
    have ok1 : 20 ≤ w ∧ w ≤ 600 ∧ w % 4 = 0 := by
      refine ⟨?_, ?_, ?_⟩
      · refine Nat.le_of_not_lt fun g => hok (.inl ?_)
        rw [io_lt_l (by omega) (by decide)]; exact g
      · refine Nat.le_of_not_lt fun g => hok (.inr (.inl ?_))
        rw [io_llt (by omega) (by decide)]; exact g
      · refine Classical.byContradiction fun g => hok (.inr (.inr ?_))
        rw [io_nat (by omega)]; exact g
    split
    · rename_i heq
      rw [hn3, io_inj (by omega) (by omega)] at heq
      have hz := base 0 (by decide) (fun g => by omega)
      have hrP : z_rP (vI (sN B 14 c 0) 64) (fn_read (vI (sN B 14 c 0) 64) c (m + 1)) := ⟨c, m + 1, h1, h8, by omega, by omega, rfl⟩
      exact W_P (W_hear (A := sP (sN B 14 c 0) (some (fn_read (vI (sN B 14 c 0) 64) c (m + 1)))) (W_P hz _) hn h1 h8 h2 hrP) none
    · rename_i hne
      rw [hn3, io_inj (by omega) (by omega)] at hne
      have hmw : m + 1 < w := by
        by_cases g4 : 4 ≤ m
        · obtain ⟨m', e1, e2, e3, e4, e5⟩ := hin g4
          have e6 : n3 (vI B 64) c 1 = n3 (vI A 64) c 1 := by
            unfold n3 u8
            rw [eINB, eINB, eINB, if_neg (by omega), if_neg (by omega), if_neg (by omega)]
          rw [e6, e1, io_inj (by omega) (by omega)] at hn3
          have : m < m' := e5
          omega
        · omega
      have := base (m + 1) (by omega) (fun _ => ⟨w, hn3, ok1.1, ok1.2.1, ok1.2.2, hmw⟩)
      rw [BB] at this
      exact W_mono (by omega) this
