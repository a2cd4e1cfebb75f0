/-! PART 73 (src 73.links.src): peers and connections: how they hang together, always -/
set_option maxHeartbeats 800000
/-- a peer's state and which connections it has -/
def z_ps (s : Int32) (o c : Nat) : Prop := (s = 0 ∧ o = 0 ∧ c = 0) ∨ (s = 1 ∧ ¬ o = 0 ∧ c = 0) ∨ (s = 2 ∧ ¬ o = 0 ∧ c = 0) ∨ (s = 3 ∧ ¬ o = 0 ∧ ¬ c = 0) ∨ (s = 4 ∧ ¬ o = 0 ∧ ¬ c = 0) ∨ (s = 5 ∧ o = 0 ∧ ¬ c = 0) ∨ (s = 6 ∧ ¬ o = 0 ∧ c = 0) ∨ (s = 7 ∧ ((o = 0 ∧ ¬ c = 0) ∨ (¬ o = 0 ∧ c = 0)))
/-- a peer's connections are its own -/
def z_pl (A : w_A) (p : Nat) : Prop := (¬ vN A 9 p = 0 → vN A 9 p ≤ 8 ∧ vN A 11 (vN A 9 p) = p + 1 ∧ vI A 13 (vN A 9 p) = 1 ∧ (vI A 12 (vN A 9 p) = 1 ∨ vI A 12 (vN A 9 p) = 2)) ∧ (¬ vN A 10 p = 0 → vN A 10 p ≤ 8 ∧ vN A 11 (vN A 10 p) = p + 1 ∧ vI A 13 (vN A 10 p) = 2 ∧ vI A 12 (vN A 10 p) = 2) ∧ (p < vN A 0 0 ∨ (vN A 9 p = 0 ∧ vN A 10 p = 0))
/-- the own one is there or not, by the state -/
def z_pc (A : w_A) (p : Nat) (s : Int32) : Prop := ¬ vN A 9 p = 0 → (vI A 12 (vN A 9 p) = 1 ↔ (s = 1 ∨ s = 3))
def z_pk (A : w_A) (p : Nat) : Prop := z_pl A p ∧ z_pc A p (vI A 0 p) ∧ z_ps (vI A 0 p) (vN A 9 p) (vN A 10 p)
def z_ck (A : w_A) (c : Nat) : Prop := (vN A 11 c = 0 ∧ vI A 13 c = 0 ∧ (vI A 12 c = 0 ∨ vI A 12 c = 2)) ∨ (∃ p, p < 4 ∧ vN A 11 c = p + 1 ∧ ((vI A 13 c = 1 ∧ vN A 9 p = c) ∨ (vI A 13 c = 2 ∧ vN A 10 p = c)))
def z_lk (A : w_A) : Prop := (∀ p, p < 4 → z_pk A p) ∧ ∀ c, 1 ≤ c → c ≤ 8 → z_ck A c
/-- all but what a peer's state says -/
def z_lh (A : w_A) (p : Nat) : Prop := (∀ q, q < 4 → ¬ q = p → z_pk A q) ∧ (∀ c, 1 ≤ c → c ≤ 8 → z_ck A c) ∧ z_pl A p
theorem lk_lh {A : w_A} (h : z_lk A) {p : Nat} (hp : p < 4) : z_lh A p := ⟨fun q hq _ => h.1 q hq, h.2, (h.1 p hp).1⟩
/-- what links depend on -/
def z_sm (A B : w_A) : Prop := (∀ p, vN B 9 p = vN A 9 p) ∧ (∀ p, vN B 10 p = vN A 10 p) ∧ (∀ c, vN B 11 c = vN A 11 c) ∧ (∀ c, vI B 12 c = vI A 12 c) ∧ (∀ c, vI B 13 c = vI A 13 c) ∧ vN B 0 0 = vN A 0 0
theorem sm_ck {A B : w_A} (h : z_sm A B) {c : Nat} (k : z_ck A c) : z_ck B c := by
  obtain ⟨h1, h2, h3, h4, h5, h6⟩ := h
  unfold z_ck at k ⊢
  rw [h3, h4, h5]
  rcases k with k | ⟨p, hp, k1, k2⟩
  · exact .inl k
  · exact .inr ⟨p, hp, k1, by rw [h1, h2]; exact k2⟩
theorem sm_pl {A B : w_A} (h : z_sm A B) {p : Nat} (k : z_pl A p) : z_pl B p := by
  obtain ⟨h1, h2, h3, h4, h5, h6⟩ := h
  unfold z_pl at k ⊢
  rw [h1, h2, h3, h3, h4, h4, h5, h5, h6]
  exact k
theorem sm_pc {A B : w_A} (h : z_sm A B) {p : Nat} {s : Int32} (k : z_pc A p s) : z_pc B p s := by
  obtain ⟨h1, h2, h3, h4, h5, h6⟩ := h
  unfold z_pc at k ⊢
  rw [h1, h4]
  exact k
theorem sm_pk {A B : w_A} (h : z_sm A B) {p : Nat} (e : vI B 0 p = vI A 0 p) (k : z_pk A p) : z_pk B p := by
  refine ⟨sm_pl h k.1, ?_, ?_⟩
  · rw [e]; exact sm_pc h k.2.1
  · rw [e, h.1, h.2.1]; exact k.2.2
theorem sm_lk {A B : w_A} (h : z_sm A B) (e : ∀ p, vI B 0 p = vI A 0 p) (k : z_lk A) : z_lk B := ⟨fun p hp => sm_pk h (e p) (k.1 p hp), fun c h1 h8 => sm_ck h (k.2 c h1 h8)⟩
theorem sm_lh {A B : w_A} {p : Nat} (h : z_sm A B) (e : ∀ q, ¬ q = p → vI B 0 q = vI A 0 q) (k : z_lh A p) : z_lh B p := ⟨fun q hq hn => sm_pk h (e q hn) (k.1 q hq hn), fun c h1 h8 => sm_ck h (k.2.1 c h1 h8), sm_pl h k.2.2⟩
theorem sm_refl (A : w_A) : z_sm A A := ⟨fun _ => rfl, fun _ => rfl, fun _ => rfl, fun _ => rfl, fun _ => rfl, rfl⟩
theorem sm_trans {A B C : w_A} (h : z_sm A B) (g : z_sm B C) : z_sm A C := ⟨fun p => (g.1 p).trans (h.1 p), fun p => (g.2.1 p).trans (h.2.1 p), fun p => (g.2.2.1 p).trans (h.2.2.1 p), fun p => (g.2.2.2.1 p).trans (h.2.2.2.1 p), fun p => (g.2.2.2.2.1 p).trans (h.2.2.2.2.1 p), g.2.2.2.2.2.trans h.2.2.2.2.2⟩
theorem sm_send (A : w_A) (c : Nat) : z_sm A (fn_send A c) := ⟨fun _ => vN_send .., fun _ => vN_send .., fun _ => vN_send .., fun _ => vI_send _ _ (by decide) _, fun _ => vI_send _ _ (by decide) _, vN_send ..⟩
theorem sm_enter (A : w_A) (p : Nat) (s : Int32) : z_sm A (fn_enter A p s) :=
  ⟨fun _ => enter_N _ _ _ (by decide) (by decide) (by decide) (by decide) (by decide) _, fun _ => enter_N _ _ _ (by decide) (by decide) (by decide) (by decide) (by decide) _, fun _ => enter_N _ _ _ (by decide) (by decide) (by decide) (by decide) (by decide) _,
   fun _ => enter_I _ _ _ (by decide) (by decide) (by decide) (by decide) (by decide) (by decide) (by decide) (by decide) (by decide) (by decide) _, fun _ => enter_I _ _ _ (by decide) (by decide) (by decide) (by decide) (by decide) (by decide) (by decide) (by decide) (by decide) (by decide) _,
   enter_N _ _ _ (by decide) (by decide) (by decide) (by decide) (by decide) _⟩
theorem lk_enter {A : w_A} {p : Nat} (hp : p < 4) {s : Int32} (h : z_lh A p) (hs : z_ps s (vN A 9 p) (vN A 10 p)) (hc : z_pc A p s) : z_lk (fn_enter A p s) := by
  have sm := sm_enter A p s
  refine ⟨fun q hq => ?_, fun c h1 h8 => sm_ck sm (h.2.1 c h1 h8)⟩
  by_cases e : q = p
  · subst e
    refine ⟨sm_pl sm h.2.2, ?_, ?_⟩ <;> rw [enter_ST, if_pos rfl]
    · exact sm_pc sm hc
    · rw [sm.1, sm.2.1]; exact hs
  · exact sm_pk sm (by rw [enter_ST, if_neg e]) (h.1 q hq e)
theorem close_ck {A : w_A} {c : Nat} (hc : vN A 11 c = 0) {e : Nat} (k : z_ck A e) : z_ck (fn_close A c) e := by
  unfold z_ck at k ⊢
  unfold fn_close
  simp only [ev_rd, ev_st, aEl, z_w, z_cat, Nat.reduceMod, Nat.reduceDiv, Nat.reduceLeDiff, Nat.reduceLT, Nat.reduceAdd, Nat.reduceMul, Nat.reduceSub, Nat.reduceEqDiff, Int32.reduceLT, Int32.reduceLE, Int32.reduceAdd, Int32.reduceSub, Int32.reduceMul, true_and, and_true, false_and, and_false, true_or, or_true, false_or, or_false, not_true_eq_false, not_false_eq_true, if_true, if_false, reduceIte, ne_eq, and_self, or_self, reduceCtorEq, Option.some.injEq, Prod.mk.injEq]
  by_cases x : e = c
  · subst x
    simp only [ev_rd, ev_st, aEl, z_w, z_cat, Nat.reduceMod, Nat.reduceDiv, Nat.reduceLeDiff, Nat.reduceLT, Nat.reduceAdd, Nat.reduceMul, Nat.reduceSub, Nat.reduceEqDiff, Int32.reduceLT, Int32.reduceLE, Int32.reduceAdd, Int32.reduceSub, Int32.reduceMul, true_and, and_true, false_and, and_false, true_or, or_true, false_or, or_false, not_true_eq_false, not_false_eq_true, if_true, if_false, reduceIte, ne_eq, and_self, or_self, reduceCtorEq, Option.some.injEq, Prod.mk.injEq]
  · simp only [x, ev_rd, ev_st, aEl, z_w, z_cat, Nat.reduceMod, Nat.reduceDiv, Nat.reduceLeDiff, Nat.reduceLT, Nat.reduceAdd, Nat.reduceMul, Nat.reduceSub, Nat.reduceEqDiff, Int32.reduceLT, Int32.reduceLE, Int32.reduceAdd, Int32.reduceSub, Int32.reduceMul, true_and, and_true, false_and, and_false, true_or, or_true, false_or, or_false, not_true_eq_false, not_false_eq_true, if_true, if_false, reduceIte, ne_eq, and_self, or_self, reduceCtorEq, Option.some.injEq, Prod.mk.injEq]
    exact k
/-- a connection that is nobody's is closed -/
theorem lk_close {A : w_A} (h : z_lk A) {c : Nat} (hc : vN A 11 c = 0) : z_lk (fn_close A c) := by
  refine ⟨fun p hp => ?_, fun e h1 h8 => close_ck hc (h.2 e h1 h8)⟩
  obtain ⟨⟨k1, k2, k3⟩, k4, k5⟩ := h.1 p hp
  have n1 : ¬ vN A 9 p = 0 → ¬ vN A 9 p = c := fun g e => by have := (k1 g).2.1; rw [e] at this; omega
  have n2 : ¬ vN A 10 p = 0 → ¬ vN A 10 p = c := fun g e => by have := (k2 g).2.1; rw [e] at this; omega
  refine ⟨⟨fun g => ?_, fun g => ?_, k3⟩, fun g => ?_, k5⟩
  · have g : ¬ vN A 9 p = 0 := g
    have := k1 g
    have e := n1 g
    unfold fn_close
    simp only [ev_rd, ev_st, aEl, z_w, z_cat, Nat.reduceMod, Nat.reduceDiv, Nat.reduceLeDiff, Nat.reduceLT, Nat.reduceAdd, Nat.reduceMul, Nat.reduceSub, Nat.reduceEqDiff, Int32.reduceLT, Int32.reduceLE, Int32.reduceAdd, Int32.reduceSub, Int32.reduceMul, true_and, and_true, false_and, and_false, true_or, or_true, false_or, or_false, not_true_eq_false, not_false_eq_true, if_true, if_false, reduceIte, ne_eq, and_self, or_self, reduceCtorEq, Option.some.injEq, Prod.mk.injEq, e]
    exact this
  · have g : ¬ vN A 10 p = 0 := g
    have := k2 g
    have e := n2 g
    unfold fn_close
    simp only [ev_rd, ev_st, aEl, z_w, z_cat, Nat.reduceMod, Nat.reduceDiv, Nat.reduceLeDiff, Nat.reduceLT, Nat.reduceAdd, Nat.reduceMul, Nat.reduceSub, Nat.reduceEqDiff, Int32.reduceLT, Int32.reduceLE, Int32.reduceAdd, Int32.reduceSub, Int32.reduceMul, true_and, and_true, false_and, and_false, true_or, or_true, false_or, or_false, not_true_eq_false, not_false_eq_true, if_true, if_false, reduceIte, ne_eq, and_self, or_self, reduceCtorEq, Option.some.injEq, Prod.mk.injEq, e]
    exact this
  · have g : ¬ vN A 9 p = 0 := g
    have := k4 g
    have e := n1 g
    show vI (fn_close A c) 12 (vN A 9 p) = 1 ↔ _
    unfold fn_close
    simp only [ev_rd, ev_st, aEl, z_w, z_cat, Nat.reduceMod, Nat.reduceDiv, Nat.reduceLeDiff, Nat.reduceLT, Nat.reduceAdd, Nat.reduceMul, Nat.reduceSub, Nat.reduceEqDiff, Int32.reduceLT, Int32.reduceLE, Int32.reduceAdd, Int32.reduceSub, Int32.reduceMul, true_and, and_true, false_and, and_false, true_or, or_true, false_or, or_false, not_true_eq_false, not_false_eq_true, if_true, if_false, reduceIte, ne_eq, and_self, or_self, reduceCtorEq, Option.some.injEq, Prod.mk.injEq, e]
    exact this
theorem lh_closeOwn {A : w_A} {p : Nat} (hp : p < 4) (h : z_lh A p) : z_lh (fn_closeOwn A p) p := by
  unfold fn_closeOwn
  split
  · exact h
  rename_i ho
  obtain ⟨h1, h2, l1, l2, l3⟩ := h
  obtain ⟨o1, o2, o3, o4⟩ := l1 ho
  generalize hc : vN A 9 p = c at *
  have nown : ∀ q, q < 4 → ¬ q = p → ¬ vN A 9 q = 0 → ¬ vN A 9 q = c := fun q hq hn g e => by have := ((h1 q hq hn).1.1 g).2.1; rw [e, o2] at this; omega
  have ncam : ∀ q, q < 4 → ¬ q = p → ¬ vN A 10 q = 0 → ¬ vN A 10 q = c := fun q hq hn g e => by have := ((h1 q hq hn).1.2.1 g).2.1; rw [e, o2] at this; omega
  have ncp : ¬ vN A 10 p = 0 → ¬ vN A 10 p = c := fun g e => by
    have := (l2 g).2.2.1
    rw [e, o3] at this
    exact absurd this (by decide)
  refine ⟨fun q hq hn => ?_, fun e e1 e8 => ?_, ?_⟩
  · obtain ⟨⟨k1, k2, k3⟩, k4, k5⟩ := h1 q hq hn
    have n1 := nown q hq hn
    have n2 := ncam q hq hn
    unfold z_pk z_pl z_pc fn_close
    simp only [ev_rd, ev_st, aEl, z_w, z_cat, Nat.reduceMod, Nat.reduceDiv, Nat.reduceLeDiff, Nat.reduceLT, Nat.reduceAdd, Nat.reduceMul, Nat.reduceSub, Nat.reduceEqDiff, Int32.reduceLT, Int32.reduceLE, Int32.reduceAdd, Int32.reduceSub, Int32.reduceMul, true_and, and_true, false_and, and_false, true_or, or_true, false_or, or_false, not_true_eq_false, not_false_eq_true, if_true, if_false, reduceIte, ne_eq, and_self, or_self, reduceCtorEq, Option.some.injEq, Prod.mk.injEq, hn]
    refine ⟨⟨fun g => ?_, fun g => ?_, k3⟩, fun g => ?_, k5⟩
    · simp only [ev_rd, ev_st, aEl, z_w, z_cat, Nat.reduceMod, Nat.reduceDiv, Nat.reduceLeDiff, Nat.reduceLT, Nat.reduceAdd, Nat.reduceMul, Nat.reduceSub, Nat.reduceEqDiff, Int32.reduceLT, Int32.reduceLE, Int32.reduceAdd, Int32.reduceSub, Int32.reduceMul, true_and, and_true, false_and, and_false, true_or, or_true, false_or, or_false, not_true_eq_false, not_false_eq_true, if_true, if_false, reduceIte, ne_eq, and_self, or_self, reduceCtorEq, Option.some.injEq, Prod.mk.injEq, n1 g]; exact k1 g
    · simp only [ev_rd, ev_st, aEl, z_w, z_cat, Nat.reduceMod, Nat.reduceDiv, Nat.reduceLeDiff, Nat.reduceLT, Nat.reduceAdd, Nat.reduceMul, Nat.reduceSub, Nat.reduceEqDiff, Int32.reduceLT, Int32.reduceLE, Int32.reduceAdd, Int32.reduceSub, Int32.reduceMul, true_and, and_true, false_and, and_false, true_or, or_true, false_or, or_false, not_true_eq_false, not_false_eq_true, if_true, if_false, reduceIte, ne_eq, and_self, or_self, reduceCtorEq, Option.some.injEq, Prod.mk.injEq, n2 g]; exact k2 g
    · simp only [ev_rd, ev_st, aEl, z_w, z_cat, Nat.reduceMod, Nat.reduceDiv, Nat.reduceLeDiff, Nat.reduceLT, Nat.reduceAdd, Nat.reduceMul, Nat.reduceSub, Nat.reduceEqDiff, Int32.reduceLT, Int32.reduceLE, Int32.reduceAdd, Int32.reduceSub, Int32.reduceMul, true_and, and_true, false_and, and_false, true_or, or_true, false_or, or_false, not_true_eq_false, not_false_eq_true, if_true, if_false, reduceIte, ne_eq, and_self, or_self, reduceCtorEq, Option.some.injEq, Prod.mk.injEq, n1 g]; exact k4 g
  · have k := h2 e e1 e8
    unfold z_ck at k ⊢
    unfold fn_close
    simp only [ev_rd, ev_st, aEl, z_w, z_cat, Nat.reduceMod, Nat.reduceDiv, Nat.reduceLeDiff, Nat.reduceLT, Nat.reduceAdd, Nat.reduceMul, Nat.reduceSub, Nat.reduceEqDiff, Int32.reduceLT, Int32.reduceLE, Int32.reduceAdd, Int32.reduceSub, Int32.reduceMul, true_and, and_true, false_and, and_false, true_or, or_true, false_or, or_false, not_true_eq_false, not_false_eq_true, if_true, if_false, reduceIte, ne_eq, and_self, or_self, reduceCtorEq, Option.some.injEq, Prod.mk.injEq]
    by_cases x : e = c
    · subst x
      simp only [ev_rd, ev_st, aEl, z_w, z_cat, Nat.reduceMod, Nat.reduceDiv, Nat.reduceLeDiff, Nat.reduceLT, Nat.reduceAdd, Nat.reduceMul, Nat.reduceSub, Nat.reduceEqDiff, Int32.reduceLT, Int32.reduceLE, Int32.reduceAdd, Int32.reduceSub, Int32.reduceMul, true_and, and_true, false_and, and_false, true_or, or_true, false_or, or_false, not_true_eq_false, not_false_eq_true, if_true, if_false, reduceIte, ne_eq, and_self, or_self, reduceCtorEq, Option.some.injEq, Prod.mk.injEq]
    · simp only [x, ev_rd, ev_st, aEl, z_w, z_cat, Nat.reduceMod, Nat.reduceDiv, Nat.reduceLeDiff, Nat.reduceLT, Nat.reduceAdd, Nat.reduceMul, Nat.reduceSub, Nat.reduceEqDiff, Int32.reduceLT, Int32.reduceLE, Int32.reduceAdd, Int32.reduceSub, Int32.reduceMul, true_and, and_true, false_and, and_false, true_or, or_true, false_or, or_false, not_true_eq_false, not_false_eq_true, if_true, if_false, reduceIte, ne_eq, and_self, or_self, reduceCtorEq, Option.some.injEq, Prod.mk.injEq]
      rcases k with k | ⟨q, hq, k1, k2⟩
      · exact .inl k
      · refine .inr ⟨q, hq, k1, ?_⟩
        rcases k2 with ⟨k2, k3⟩ | k2
        · left
          refine ⟨k2, ?_⟩
          by_cases y : q = p
          · subst y; exact absurd (k3.symm.trans hc) x
          · rw [if_neg y]; exact k3
        · exact .inr k2
  · unfold z_pl fn_close
    simp only [ev_rd, ev_st, aEl, z_w, z_cat, Nat.reduceMod, Nat.reduceDiv, Nat.reduceLeDiff, Nat.reduceLT, Nat.reduceAdd, Nat.reduceMul, Nat.reduceSub, Nat.reduceEqDiff, Int32.reduceLT, Int32.reduceLE, Int32.reduceAdd, Int32.reduceSub, Int32.reduceMul, true_and, and_true, false_and, and_false, true_or, or_true, false_or, or_false, not_true_eq_false, not_false_eq_true, if_true, if_false, reduceIte, ne_eq, and_self, or_self, reduceCtorEq, Option.some.injEq, Prod.mk.injEq]
    refine ⟨fun g => g.elim, fun g => ?_, ?_⟩
    · simp only [ev_rd, ev_st, aEl, z_w, z_cat, Nat.reduceMod, Nat.reduceDiv, Nat.reduceLeDiff, Nat.reduceLT, Nat.reduceAdd, Nat.reduceMul, Nat.reduceSub, Nat.reduceEqDiff, Int32.reduceLT, Int32.reduceLE, Int32.reduceAdd, Int32.reduceSub, Int32.reduceMul, true_and, and_true, false_and, and_false, true_or, or_true, false_or, or_false, not_true_eq_false, not_false_eq_true, if_true, if_false, reduceIte, ne_eq, and_self, or_self, reduceCtorEq, Option.some.injEq, Prod.mk.injEq, ncp g]; exact l2 g
    · rcases l3 with l3 | l3
      · exact .inl l3
      · exact .inr l3.2
theorem lh_closeCame {A : w_A} {p : Nat} (hp : p < 4) (h : z_lh A p) : z_lh (fn_closeCame A p) p := by
  unfold fn_closeCame
  split
  · exact h
  rename_i ho
  obtain ⟨h1, h2, l1, l2, l3⟩ := h
  obtain ⟨o1, o2, o3, o4⟩ := l2 ho
  generalize hc : vN A 10 p = c at *
  have nown : ∀ q, q < 4 → ¬ q = p → ¬ vN A 9 q = 0 → ¬ vN A 9 q = c := fun q hq hn g e => by have := ((h1 q hq hn).1.1 g).2.1; rw [e, o2] at this; omega
  have ncam : ∀ q, q < 4 → ¬ q = p → ¬ vN A 10 q = 0 → ¬ vN A 10 q = c := fun q hq hn g e => by have := ((h1 q hq hn).1.2.1 g).2.1; rw [e, o2] at this; omega
  have ncp : ¬ vN A 9 p = 0 → ¬ vN A 9 p = c := fun g e => by
    have := (l1 g).2.2.1
    rw [e, o3] at this
    exact absurd this (by decide)
  refine ⟨fun q hq hn => ?_, fun e e1 e8 => ?_, ?_⟩
  · obtain ⟨⟨k1, k2, k3⟩, k4, k5⟩ := h1 q hq hn
    have n1 := nown q hq hn
    have n2 := ncam q hq hn
    unfold z_pk z_pl z_pc fn_close
    simp only [ev_rd, ev_st, aEl, z_w, z_cat, Nat.reduceMod, Nat.reduceDiv, Nat.reduceLeDiff, Nat.reduceLT, Nat.reduceAdd, Nat.reduceMul, Nat.reduceSub, Nat.reduceEqDiff, Int32.reduceLT, Int32.reduceLE, Int32.reduceAdd, Int32.reduceSub, Int32.reduceMul, true_and, and_true, false_and, and_false, true_or, or_true, false_or, or_false, not_true_eq_false, not_false_eq_true, if_true, if_false, reduceIte, ne_eq, and_self, or_self, reduceCtorEq, Option.some.injEq, Prod.mk.injEq, hn]
    refine ⟨⟨fun g => ?_, fun g => ?_, k3⟩, fun g => ?_, k5⟩
    · simp only [ev_rd, ev_st, aEl, z_w, z_cat, Nat.reduceMod, Nat.reduceDiv, Nat.reduceLeDiff, Nat.reduceLT, Nat.reduceAdd, Nat.reduceMul, Nat.reduceSub, Nat.reduceEqDiff, Int32.reduceLT, Int32.reduceLE, Int32.reduceAdd, Int32.reduceSub, Int32.reduceMul, true_and, and_true, false_and, and_false, true_or, or_true, false_or, or_false, not_true_eq_false, not_false_eq_true, if_true, if_false, reduceIte, ne_eq, and_self, or_self, reduceCtorEq, Option.some.injEq, Prod.mk.injEq, n1 g]; exact k1 g
    · simp only [ev_rd, ev_st, aEl, z_w, z_cat, Nat.reduceMod, Nat.reduceDiv, Nat.reduceLeDiff, Nat.reduceLT, Nat.reduceAdd, Nat.reduceMul, Nat.reduceSub, Nat.reduceEqDiff, Int32.reduceLT, Int32.reduceLE, Int32.reduceAdd, Int32.reduceSub, Int32.reduceMul, true_and, and_true, false_and, and_false, true_or, or_true, false_or, or_false, not_true_eq_false, not_false_eq_true, if_true, if_false, reduceIte, ne_eq, and_self, or_self, reduceCtorEq, Option.some.injEq, Prod.mk.injEq, n2 g]; exact k2 g
    · simp only [ev_rd, ev_st, aEl, z_w, z_cat, Nat.reduceMod, Nat.reduceDiv, Nat.reduceLeDiff, Nat.reduceLT, Nat.reduceAdd, Nat.reduceMul, Nat.reduceSub, Nat.reduceEqDiff, Int32.reduceLT, Int32.reduceLE, Int32.reduceAdd, Int32.reduceSub, Int32.reduceMul, true_and, and_true, false_and, and_false, true_or, or_true, false_or, or_false, not_true_eq_false, not_false_eq_true, if_true, if_false, reduceIte, ne_eq, and_self, or_self, reduceCtorEq, Option.some.injEq, Prod.mk.injEq, n1 g]; exact k4 g
  · have k := h2 e e1 e8
    unfold z_ck at k ⊢
    unfold fn_close
    simp only [ev_rd, ev_st, aEl, z_w, z_cat, Nat.reduceMod, Nat.reduceDiv, Nat.reduceLeDiff, Nat.reduceLT, Nat.reduceAdd, Nat.reduceMul, Nat.reduceSub, Nat.reduceEqDiff, Int32.reduceLT, Int32.reduceLE, Int32.reduceAdd, Int32.reduceSub, Int32.reduceMul, true_and, and_true, false_and, and_false, true_or, or_true, false_or, or_false, not_true_eq_false, not_false_eq_true, if_true, if_false, reduceIte, ne_eq, and_self, or_self, reduceCtorEq, Option.some.injEq, Prod.mk.injEq]
    by_cases x : e = c
    · subst x
      simp only [ev_rd, ev_st, aEl, z_w, z_cat, Nat.reduceMod, Nat.reduceDiv, Nat.reduceLeDiff, Nat.reduceLT, Nat.reduceAdd, Nat.reduceMul, Nat.reduceSub, Nat.reduceEqDiff, Int32.reduceLT, Int32.reduceLE, Int32.reduceAdd, Int32.reduceSub, Int32.reduceMul, true_and, and_true, false_and, and_false, true_or, or_true, false_or, or_false, not_true_eq_false, not_false_eq_true, if_true, if_false, reduceIte, ne_eq, and_self, or_self, reduceCtorEq, Option.some.injEq, Prod.mk.injEq]
    · simp only [x, ev_rd, ev_st, aEl, z_w, z_cat, Nat.reduceMod, Nat.reduceDiv, Nat.reduceLeDiff, Nat.reduceLT, Nat.reduceAdd, Nat.reduceMul, Nat.reduceSub, Nat.reduceEqDiff, Int32.reduceLT, Int32.reduceLE, Int32.reduceAdd, Int32.reduceSub, Int32.reduceMul, true_and, and_true, false_and, and_false, true_or, or_true, false_or, or_false, not_true_eq_false, not_false_eq_true, if_true, if_false, reduceIte, ne_eq, and_self, or_self, reduceCtorEq, Option.some.injEq, Prod.mk.injEq]
      rcases k with k | ⟨q, hq, k1, k2⟩
      · exact .inl k
      · refine .inr ⟨q, hq, k1, ?_⟩
        rcases k2 with k2 | ⟨k2, k3⟩
        · exact .inl k2
        · right
          refine ⟨k2, ?_⟩
          by_cases y : q = p
          · subst y; exact absurd (k3.symm.trans hc) x
          · rw [if_neg y]; exact k3
  · unfold z_pl fn_close
    simp only [ev_rd, ev_st, aEl, z_w, z_cat, Nat.reduceMod, Nat.reduceDiv, Nat.reduceLeDiff, Nat.reduceLT, Nat.reduceAdd, Nat.reduceMul, Nat.reduceSub, Nat.reduceEqDiff, Int32.reduceLT, Int32.reduceLE, Int32.reduceAdd, Int32.reduceSub, Int32.reduceMul, true_and, and_true, false_and, and_false, true_or, or_true, false_or, or_false, not_true_eq_false, not_false_eq_true, if_true, if_false, reduceIte, ne_eq, and_self, or_self, reduceCtorEq, Option.some.injEq, Prod.mk.injEq]
    refine ⟨fun g => ?_, fun g => g.elim, ?_⟩
    · simp only [ev_rd, ev_st, aEl, z_w, z_cat, Nat.reduceMod, Nat.reduceDiv, Nat.reduceLeDiff, Nat.reduceLT, Nat.reduceAdd, Nat.reduceMul, Nat.reduceSub, Nat.reduceEqDiff, Int32.reduceLT, Int32.reduceLE, Int32.reduceAdd, Int32.reduceSub, Int32.reduceMul, true_and, and_true, false_and, and_false, true_or, or_true, false_or, or_false, not_true_eq_false, not_false_eq_true, if_true, if_false, reduceIte, ne_eq, and_self, or_self, reduceCtorEq, Option.some.injEq, Prod.mk.injEq, ncp g]; exact l1 g
    · rcases l3 with l3 | l3
      · exact .inl l3
      · exact .inr l3.1
theorem closeOwn_CAME (A : w_A) (p q : Nat) : vN (fn_closeOwn A p) 10 q = vN A 10 q := by
  unfold fn_closeOwn
  split <;> rfl
theorem closeCame_OWN (A : w_A) (p q : Nat) : vN (fn_closeCame A p) 9 q = vN A 9 q := by
  unfold fn_closeCame
  split <;> rfl
theorem closeOwn_ST (A : w_A) (p q : Nat) : vI (fn_closeOwn A p) 0 q = vI A 0 q := by
  unfold fn_closeOwn
  split <;> rfl
theorem closeCame_ST (A : w_A) (p q : Nat) : vI (fn_closeCame A p) 0 q = vI A 0 q := by
  unfold fn_closeCame
  split <;> rfl
theorem lk_shut {A : w_A} {p : Nat} (hp : p < 4) (h : z_lh A p) : z_lk (fn_shut A p) := by
  have e1 : vN (fn_closeCame (fn_closeOwn A p) p) 9 p = 0 := by rw [closeCame_OWN, closeOwn_0]
  have e2 : vN (fn_closeCame (fn_closeOwn A p) p) 10 p = 0 := closeCame_0 _ _
  refine lk_enter hp (lh_closeCame hp (lh_closeOwn hp h)) ?_ (fun g => absurd e1 g)
  rw [e1, e2]
  exact .inl ⟨rfl, rfl, rfl⟩
theorem lk_opened {A : w_A} {p : Nat} (hp : p < 4) (h : z_lh A p) (h1 : vN A 9 p = 0) (h2 : ¬ vN A 10 p = 0) : z_lk (fn_opened A p) := by
  have sm : z_sm A (fn_answerCame A p) := sm_trans (sm_refl _ : z_sm A (fn_page A _)) (sm_send _ _)
  have hl : z_lh (fn_answerCame A p) p := sm_lh sm (fun q _ => vI_send _ _ (by decide) _) h
  have e1 : vN (fn_answerCame A p) 9 p = 0 := (sm.1 p).trans h1
  refine lk_enter hp hl ?_ (fun g => absurd e1 g)
  rw [e1, sm.2.1]
  exact .inr (.inr (.inr (.inr (.inr (.inl ⟨rfl, rfl, h2⟩)))))
theorem lk_choose {A : w_A} {p : Nat} (hp : p < 4) (h : z_lh A p) (h1 : ¬ vN A 9 p = 0) (h2 : ¬ vN A 10 p = 0) (h3 : vI A 12 (vN A 9 p) = 2) : z_lk (fn_choose A p) := by
  unfold fn_choose
  split
  · exact lk_opened hp (lh_closeOwn hp h) (closeOwn_0 _ _) (by rw [closeOwn_CAME]; exact h2)
  · refine lk_enter hp h (.inr (.inr (.inr (.inr (.inl ⟨rfl, h1, h2⟩))))) (fun _ => ?_)
    rw [h3]
    decide
theorem lk_end {A : w_A} (h : z_lk A) {c : Nat} (h1 : 1 ≤ c) (h8 : c ≤ 8) : z_lk (fn_end A c) := by
  unfold fn_end
  split
  · rename_i hz
    exact lk_close h hz
  rename_i hz
  rcases h.2 c h1 h8 with k | ⟨p, hp, k1, k2⟩
  · exact absurd k.1 hz
  have ep : vN A 11 c - 1 = p := by omega
  dsimp only
  rw [ep]
  have hk := h.1 p hp
  have hl := lk_lh h hp
  rcases k2 with ⟨kr, ko⟩ | ⟨kr, ko⟩
  · have hco := lh_closeOwn hp hl
    have cc : vN (fn_closeOwn A p) 10 p = vN A 10 p := closeOwn_CAME _ _ _
    simp only [kr, if_true]
    split
    · rename_i hs
      refine lk_opened hp hco (closeOwn_0 _ _) ?_
      rw [cc]
      have := hk.2.2
      rw [hs] at this
      simpa [z_ps] using (show ¬ vN A 10 p = 0 from by rcases this with h | h | h | h | h | h | h | h <;> first | exact h.2.2 | exact absurd h.1 (by decide))
    · split
      · rename_i hs
        refine lk_opened hp hco (closeOwn_0 _ _) ?_
        rw [cc]
        have := hk.2.2
        rw [hs] at this
        rcases this with h | h | h | h | h | h | h | h <;> first | exact h.2.2 | exact absurd h.1 (by decide)
      · exact lk_shut hp hco
  · have hcc := lh_closeCame hp hl
    have oo : vN (fn_closeCame A p) 9 p = vN A 9 p := closeCame_OWN _ _ _
    have c0 : vN (fn_closeCame A p) 10 p = 0 := closeCame_0 _ _
    have k21 : ¬ ((2 : Int32) = 1) := by decide
    have cs : ¬ vN A 9 p = 0 → vI (fn_closeCame A p) 12 (vN A 9 p) = vI A 12 (vN A 9 p) := fun g => by
      unfold fn_closeCame
      split
      · rfl
      · unfold fn_close
        have : ¬ vN A 9 p = vN A 10 p := fun e => by
          have r1 := (hk.1.1 g).2.2.1
          rw [e, ko, kr] at r1
          exact k21 r1
        simp only [ev_rd, ev_st, aEl, z_w, z_cat, Nat.reduceMod, Nat.reduceDiv, Nat.reduceLeDiff, Nat.reduceLT, Nat.reduceAdd, Nat.reduceMul, Nat.reduceSub, Nat.reduceEqDiff, Int32.reduceLT, Int32.reduceLE, Int32.reduceAdd, Int32.reduceSub, Int32.reduceMul, true_and, and_true, false_and, and_false, true_or, or_true, false_or, or_false, not_true_eq_false, not_false_eq_true, if_true, if_false, reduceIte, ne_eq, and_self, or_self, reduceCtorEq, Option.some.injEq, Prod.mk.injEq, this]
    simp only [kr, k21, if_false]
    split
    · rename_i hs
      have hst := hk.2.2
      rw [hs] at hst
      have ho : ¬ vN A 9 p = 0 := by rcases hst with h | h | h | h | h | h | h | h <;> first | exact h.2.1 | exact absurd h.1 (by decide)
      refine lk_enter hp hcc ?_ (fun _ => ?_)
      · rw [oo, c0]; exact .inr (.inl ⟨rfl, ho, rfl⟩)
      · rw [oo, cs ho]
        have := hk.2.1 ho
        rw [hs] at this
        exact ⟨fun _ => .inl rfl, fun _ => this.mpr (.inr rfl)⟩
    · split
      · rename_i hs
        have hst := hk.2.2
        rw [hs] at hst
        have ho : ¬ vN A 9 p = 0 := by rcases hst with h | h | h | h | h | h | h | h <;> first | exact h.2.1 | exact absurd h.1 (by decide)
        refine lk_enter hp hcc ?_ (fun _ => ?_)
        · rw [oo, c0]; exact .inr (.inr (.inl ⟨rfl, ho, rfl⟩))
        · rw [oo, cs ho]
          have := hk.2.1 ho
          rw [hs] at this
          exact ⟨fun e => absurd (this.mp e) (by decide), fun e => absurd e (by decide)⟩
      · exact lk_shut hp hcc
/-- a spare connection is nobody's -/
theorem spare_lk {A : w_A} (h : z_lk A) {c : Nat} (h1 : 1 ≤ c) (h8 : c ≤ 8) (h0 : vI A 12 c = 0) : vN A 11 c = 0 := by
  rcases h.2 c h1 h8 with k | ⟨p, hp, k1, k2⟩
  · exact k.1
  · exfalso
    rcases k2 with ⟨_, ko⟩ | ⟨_, ko⟩
    · have := ((h.1 p hp).1.1 (by omega)).2.2.2
      rw [ko, h0] at this
      exact absurd this (by decide)
    · have := ((h.1 p hp).1.2.1 (by omega)).2.2.2
      rw [ko, h0] at this
      exact absurd this (by decide)
theorem lk_accept {A : w_A} (h : z_lk A) {c : Nat} (h1 : 1 ≤ c) (h8 : c ≤ 8) (h0 : vI A 12 c = 0) : z_lk (fn_fresh A c 2 0 0) := by
  have hz := spare_lk h h1 h8 h0
  refine ⟨fun p hp => ?_, fun e e1 e8 => ?_⟩
  · obtain ⟨⟨k1, k2, k3⟩, k4, k5⟩ := h.1 p hp
    have n1 : ¬ vN A 9 p = 0 → ¬ vN A 9 p = c := fun g e => by have := (k1 g).2.1; rw [e] at this; omega
    have n2 : ¬ vN A 10 p = 0 → ¬ vN A 10 p = c := fun g e => by have := (k2 g).2.1; rw [e] at this; omega
    unfold z_pk z_pl z_pc fn_fresh
    simp only [ev_rd, ev_st, aEl, z_w, z_cat, Nat.reduceMod, Nat.reduceDiv, Nat.reduceLeDiff, Nat.reduceLT, Nat.reduceAdd, Nat.reduceMul, Nat.reduceSub, Nat.reduceEqDiff, Int32.reduceLT, Int32.reduceLE, Int32.reduceAdd, Int32.reduceSub, Int32.reduceMul, true_and, and_true, false_and, and_false, true_or, or_true, false_or, or_false, not_true_eq_false, not_false_eq_true, if_true, if_false, reduceIte, ne_eq, and_self, or_self, reduceCtorEq, Option.some.injEq, Prod.mk.injEq]
    refine ⟨⟨fun g => ?_, fun g => ?_, k3⟩, fun g => ?_, k5⟩
    · simp only [ev_rd, ev_st, aEl, z_w, z_cat, Nat.reduceMod, Nat.reduceDiv, Nat.reduceLeDiff, Nat.reduceLT, Nat.reduceAdd, Nat.reduceMul, Nat.reduceSub, Nat.reduceEqDiff, Int32.reduceLT, Int32.reduceLE, Int32.reduceAdd, Int32.reduceSub, Int32.reduceMul, true_and, and_true, false_and, and_false, true_or, or_true, false_or, or_false, not_true_eq_false, not_false_eq_true, if_true, if_false, reduceIte, ne_eq, and_self, or_self, reduceCtorEq, Option.some.injEq, Prod.mk.injEq, n1 g]; exact k1 g
    · simp only [ev_rd, ev_st, aEl, z_w, z_cat, Nat.reduceMod, Nat.reduceDiv, Nat.reduceLeDiff, Nat.reduceLT, Nat.reduceAdd, Nat.reduceMul, Nat.reduceSub, Nat.reduceEqDiff, Int32.reduceLT, Int32.reduceLE, Int32.reduceAdd, Int32.reduceSub, Int32.reduceMul, true_and, and_true, false_and, and_false, true_or, or_true, false_or, or_false, not_true_eq_false, not_false_eq_true, if_true, if_false, reduceIte, ne_eq, and_self, or_self, reduceCtorEq, Option.some.injEq, Prod.mk.injEq, n2 g]; exact k2 g
    · simp only [ev_rd, ev_st, aEl, z_w, z_cat, Nat.reduceMod, Nat.reduceDiv, Nat.reduceLeDiff, Nat.reduceLT, Nat.reduceAdd, Nat.reduceMul, Nat.reduceSub, Nat.reduceEqDiff, Int32.reduceLT, Int32.reduceLE, Int32.reduceAdd, Int32.reduceSub, Int32.reduceMul, true_and, and_true, false_and, and_false, true_or, or_true, false_or, or_false, not_true_eq_false, not_false_eq_true, if_true, if_false, reduceIte, ne_eq, and_self, or_self, reduceCtorEq, Option.some.injEq, Prod.mk.injEq, n1 g]; exact k4 g
  · have k := h.2 e e1 e8
    unfold z_ck at k ⊢
    unfold fn_fresh
    simp only [ev_rd, ev_st, aEl, z_w, z_cat, Nat.reduceMod, Nat.reduceDiv, Nat.reduceLeDiff, Nat.reduceLT, Nat.reduceAdd, Nat.reduceMul, Nat.reduceSub, Nat.reduceEqDiff, Int32.reduceLT, Int32.reduceLE, Int32.reduceAdd, Int32.reduceSub, Int32.reduceMul, true_and, and_true, false_and, and_false, true_or, or_true, false_or, or_false, not_true_eq_false, not_false_eq_true, if_true, if_false, reduceIte, ne_eq, and_self, or_self, reduceCtorEq, Option.some.injEq, Prod.mk.injEq]
    by_cases x : e = c
    · subst x
      simp only [ev_rd, ev_st, aEl, z_w, z_cat, Nat.reduceMod, Nat.reduceDiv, Nat.reduceLeDiff, Nat.reduceLT, Nat.reduceAdd, Nat.reduceMul, Nat.reduceSub, Nat.reduceEqDiff, Int32.reduceLT, Int32.reduceLE, Int32.reduceAdd, Int32.reduceSub, Int32.reduceMul, true_and, and_true, false_and, and_false, true_or, or_true, false_or, or_false, not_true_eq_false, not_false_eq_true, if_true, if_false, reduceIte, ne_eq, and_self, or_self, reduceCtorEq, Option.some.injEq, Prod.mk.injEq]
    · simp only [x, ev_rd, ev_st, aEl, z_w, z_cat, Nat.reduceMod, Nat.reduceDiv, Nat.reduceLeDiff, Nat.reduceLT, Nat.reduceAdd, Nat.reduceMul, Nat.reduceSub, Nat.reduceEqDiff, Int32.reduceLT, Int32.reduceLE, Int32.reduceAdd, Int32.reduceSub, Int32.reduceMul, true_and, and_true, false_and, and_false, true_or, or_true, false_or, or_false, not_true_eq_false, not_false_eq_true, if_true, if_false, reduceIte, ne_eq, and_self, or_self, reduceCtorEq, Option.some.injEq, Prod.mk.injEq]
      exact k
theorem lk_begin {A : w_A} (h : z_lk A) {p c : Nat} (hp : p < vN A 0 0) (hp4 : p < 4) (hs : vI A 0 p = 0) (h1 : 1 ≤ c) (h8 : c ≤ 8) (h0 : vI A 12 c = 0) : z_lk (fn_begin A p c) := by
  have hz := spare_lk h h1 h8 h0
  have hpk := h.1 p hp4
  have hz2 : vN A 9 p = 0 ∧ vN A 10 p = 0 := by
    have := hpk.2.2
    rw [hs] at this
    rcases this with h | h | h | h | h | h | h | h <;> first | exact h.2 | exact absurd h.1 (by decide)
  have hc0 : ¬ c = 0 := by omega
  refine lk_enter hp4 (A := sN (fn_fresh A c 1 (p + 1) 1) 9 p c) ⟨fun q hq hn => ?_, fun e e1 e8 => ?_, ?_⟩ ?_ (fun _ => ?_)
  · obtain ⟨⟨k1, k2, k3⟩, k4, k5⟩ := h.1 q hq
    have n1 : ¬ vN A 9 q = 0 → ¬ vN A 9 q = c := fun g e => by have := (k1 g).2.1; rw [e] at this; omega
    have n2 : ¬ vN A 10 q = 0 → ¬ vN A 10 q = c := fun g e => by have := (k2 g).2.1; rw [e] at this; omega
    unfold z_pk z_pl z_pc fn_fresh
    simp only [ev_rd, ev_st, aEl, z_w, z_cat, Nat.reduceMod, Nat.reduceDiv, Nat.reduceLeDiff, Nat.reduceLT, Nat.reduceAdd, Nat.reduceMul, Nat.reduceSub, Nat.reduceEqDiff, Int32.reduceLT, Int32.reduceLE, Int32.reduceAdd, Int32.reduceSub, Int32.reduceMul, true_and, and_true, false_and, and_false, true_or, or_true, false_or, or_false, not_true_eq_false, not_false_eq_true, if_true, if_false, reduceIte, ne_eq, and_self, or_self, reduceCtorEq, Option.some.injEq, Prod.mk.injEq, hn]
    refine ⟨⟨fun g => ?_, fun g => ?_, k3⟩, fun g => ?_, k5⟩
    · simp only [ev_rd, ev_st, aEl, z_w, z_cat, Nat.reduceMod, Nat.reduceDiv, Nat.reduceLeDiff, Nat.reduceLT, Nat.reduceAdd, Nat.reduceMul, Nat.reduceSub, Nat.reduceEqDiff, Int32.reduceLT, Int32.reduceLE, Int32.reduceAdd, Int32.reduceSub, Int32.reduceMul, true_and, and_true, false_and, and_false, true_or, or_true, false_or, or_false, not_true_eq_false, not_false_eq_true, if_true, if_false, reduceIte, ne_eq, and_self, or_self, reduceCtorEq, Option.some.injEq, Prod.mk.injEq, n1 g]; exact k1 g
    · simp only [ev_rd, ev_st, aEl, z_w, z_cat, Nat.reduceMod, Nat.reduceDiv, Nat.reduceLeDiff, Nat.reduceLT, Nat.reduceAdd, Nat.reduceMul, Nat.reduceSub, Nat.reduceEqDiff, Int32.reduceLT, Int32.reduceLE, Int32.reduceAdd, Int32.reduceSub, Int32.reduceMul, true_and, and_true, false_and, and_false, true_or, or_true, false_or, or_false, not_true_eq_false, not_false_eq_true, if_true, if_false, reduceIte, ne_eq, and_self, or_self, reduceCtorEq, Option.some.injEq, Prod.mk.injEq, n2 g]; exact k2 g
    · simp only [ev_rd, ev_st, aEl, z_w, z_cat, Nat.reduceMod, Nat.reduceDiv, Nat.reduceLeDiff, Nat.reduceLT, Nat.reduceAdd, Nat.reduceMul, Nat.reduceSub, Nat.reduceEqDiff, Int32.reduceLT, Int32.reduceLE, Int32.reduceAdd, Int32.reduceSub, Int32.reduceMul, true_and, and_true, false_and, and_false, true_or, or_true, false_or, or_false, not_true_eq_false, not_false_eq_true, if_true, if_false, reduceIte, ne_eq, and_self, or_self, reduceCtorEq, Option.some.injEq, Prod.mk.injEq, n1 g]; exact k4 g
  · have k := h.2 e e1 e8
    unfold z_ck at k ⊢
    unfold fn_fresh
    simp only [ev_rd, ev_st, aEl, z_w, z_cat, Nat.reduceMod, Nat.reduceDiv, Nat.reduceLeDiff, Nat.reduceLT, Nat.reduceAdd, Nat.reduceMul, Nat.reduceSub, Nat.reduceEqDiff, Int32.reduceLT, Int32.reduceLE, Int32.reduceAdd, Int32.reduceSub, Int32.reduceMul, true_and, and_true, false_and, and_false, true_or, or_true, false_or, or_false, not_true_eq_false, not_false_eq_true, if_true, if_false, reduceIte, ne_eq, and_self, or_self, reduceCtorEq, Option.some.injEq, Prod.mk.injEq]
    by_cases x : e = c
    · subst x
      simp only [ev_rd, ev_st, aEl, z_w, z_cat, Nat.reduceMod, Nat.reduceDiv, Nat.reduceLeDiff, Nat.reduceLT, Nat.reduceAdd, Nat.reduceMul, Nat.reduceSub, Nat.reduceEqDiff, Int32.reduceLT, Int32.reduceLE, Int32.reduceAdd, Int32.reduceSub, Int32.reduceMul, true_and, and_true, false_and, and_false, true_or, or_true, false_or, or_false, not_true_eq_false, not_false_eq_true, if_true, if_false, reduceIte, ne_eq, and_self, or_self, reduceCtorEq, Option.some.injEq, Prod.mk.injEq]
      exact ⟨p, hp4, rfl, .inl (if_pos rfl)⟩
    · simp only [x, ev_rd, ev_st, aEl, z_w, z_cat, Nat.reduceMod, Nat.reduceDiv, Nat.reduceLeDiff, Nat.reduceLT, Nat.reduceAdd, Nat.reduceMul, Nat.reduceSub, Nat.reduceEqDiff, Int32.reduceLT, Int32.reduceLE, Int32.reduceAdd, Int32.reduceSub, Int32.reduceMul, true_and, and_true, false_and, and_false, true_or, or_true, false_or, or_false, not_true_eq_false, not_false_eq_true, if_true, if_false, reduceIte, ne_eq, and_self, or_self, reduceCtorEq, Option.some.injEq, Prod.mk.injEq]
      rcases k with k | ⟨q, hq, k1, k2⟩
      · exact .inl k
      · refine .inr ⟨q, hq, k1, ?_⟩
        by_cases y : q = p
        · subst y
          rcases k2 with ⟨k2, k3⟩ | k2
          · exact absurd (hz2.1.symm.trans k3) (by omega)
          · exact .inr k2
        · rw [if_neg y]; exact k2
  · unfold z_pl fn_fresh
    simp only [ev_rd, ev_st, aEl, z_w, z_cat, Nat.reduceMod, Nat.reduceDiv, Nat.reduceLeDiff, Nat.reduceLT, Nat.reduceAdd, Nat.reduceMul, Nat.reduceSub, Nat.reduceEqDiff, Int32.reduceLT, Int32.reduceLE, Int32.reduceAdd, Int32.reduceSub, Int32.reduceMul, true_and, and_true, false_and, and_false, true_or, or_true, false_or, or_false, not_true_eq_false, not_false_eq_true, if_true, if_false, reduceIte, ne_eq, and_self, or_self, reduceCtorEq, Option.some.injEq, Prod.mk.injEq, hz2.2]
    exact ⟨fun _ => h8, fun g => g.elim, .inl hp⟩
  · unfold fn_fresh
    simp only [ev_rd, ev_st, aEl, z_w, z_cat, Nat.reduceMod, Nat.reduceDiv, Nat.reduceLeDiff, Nat.reduceLT, Nat.reduceAdd, Nat.reduceMul, Nat.reduceSub, Nat.reduceEqDiff, Int32.reduceLT, Int32.reduceLE, Int32.reduceAdd, Int32.reduceSub, Int32.reduceMul, true_and, and_true, false_and, and_false, true_or, or_true, false_or, or_false, not_true_eq_false, not_false_eq_true, if_true, if_false, reduceIte, ne_eq, and_self, or_self, reduceCtorEq, Option.some.injEq, Prod.mk.injEq, hz2.2]
    exact .inr (.inl ⟨rfl, hc0, rfl⟩)
  · unfold fn_fresh
    simp only [ev_rd, ev_st, aEl, z_w, z_cat, Nat.reduceMod, Nat.reduceDiv, Nat.reduceLeDiff, Nat.reduceLT, Nat.reduceAdd, Nat.reduceMul, Nat.reduceSub, Nat.reduceEqDiff, Int32.reduceLT, Int32.reduceLE, Int32.reduceAdd, Int32.reduceSub, Int32.reduceMul, true_and, and_true, false_and, and_false, true_or, or_true, false_or, or_false, not_true_eq_false, not_false_eq_true, if_true, if_false, reduceIte, ne_eq, and_self, or_self, reduceCtorEq, Option.some.injEq, Prod.mk.injEq]
