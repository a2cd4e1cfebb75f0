/-! PART 85a (src 85a.wcredit.src): credits keep what always holds -/
set_option maxHeartbeats 800000
theorem sum_cong {f g : Nat → Int} : ∀ {n : Nat}, (∀ s, s < n → f s = g s) → z_sum f n = z_sum g n
  | 0, _ => rfl
  | n + 1, h => by
    show z_sum f n + f n = z_sum g n + g n
    rw [sum_cong (fun s hs => h s (by omega)), h n (by omega)]
theorem sum_upd {f g : Nat → Int} {k : Nat} : ∀ {n : Nat}, k < n → (∀ s, s < n → ¬ s = k → g s = f s) → z_sum g n = z_sum f n - f k + g k
  | n + 1, hk, h => by
    show z_sum g n + g n = z_sum f n + f n - f k + g k
    by_cases e : k = n
    · subst e
      rw [sum_cong (f := g) (g := f) (fun s hs => h s (by omega) (by omega))]
      omega
    · rw [sum_upd (f := f) (g := g) (k := k) (n := n) (by omega) (fun s hs => h s (by omega)), h n (by omega) (by omega)]
      omega
theorem sum_out {f g : Nat → Int} {k : Nat} : ∀ {n : Nat}, k ≤ n → (∀ s, s < k → g s = f s) → (∀ s, k ≤ s → s < n → g s = f (s + 1)) → z_sum g n = z_sum f (n + 1) - f k
  | 0, hk, _, _ => by
    have : k = 0 := by omega
    subst this
    show (0 : Int) = 0 + f 0 - f 0
    omega
  | n + 1, hk, h1, h2 => by
    show z_sum g n + g n = z_sum f (n + 1) + f (n + 1) - f k
    by_cases e : k = n + 1
    · subst e
      rw [sum_cong (f := g) (g := f) (fun s hs => h1 s (by omega)), h1 n (by omega)]
      show _ = z_sum f n + f n + f (n + 1) - f (n + 1)
      omega
    · rw [sum_out (f := f) (g := g) (k := k) (n := n) (by omega) h1 (fun s a b => h2 s a (by omega)), h2 n (by omega) (by omega)]
      omega
theorem sum_pos {f : Nat → Int} : ∀ {n : Nat}, (∀ s, s < n → 0 ≤ f s) → 0 ≤ z_sum f n
  | 0, _ => Int.le_refl _
  | n + 1, h => by
    have := sum_pos (f := f) (n := n) fun s hs => h s (by omega)
    have := h n (by omega)
    show 0 ≤ z_sum f n + f n
    omega
theorem sum_ge {f : Nat → Int} {k : Nat} : ∀ {n : Nat}, k < n → (∀ s, s < n → 0 ≤ f s) → f k ≤ z_sum f n
  | n + 1, hk, h => by
    show f k ≤ z_sum f n + f n
    by_cases e : k = n
    · subst e
      have := sum_pos (f := f) (n := k) fun s hs => h s (by omega)
      omega
    · have := sum_ge (f := f) (k := k) (n := n) (by omega) fun s hs => h s (by omega)
      have := h n (by omega)
      omega
theorem i64_sub {x y : Int64} (h : -4611686018427387903 ≤ x.toInt ∧ x.toInt ≤ 4611686018427387903) (g : -4611686018427387903 ≤ y.toInt ∧ y.toInt ≤ 4611686018427387903) : (x - y).toInt = x.toInt - y.toInt := by
  rw [Int64.toInt_sub]
  exact Int.bmod_eq_of_le (by omega) (by omega)
theorem i64_add {x y : Int64} (h : -4611686018427387903 ≤ x.toInt ∧ x.toInt ≤ 4611686018427387903) (g : -4611686018427387903 ≤ y.toInt ∧ y.toInt ≤ 4611686018427387903) : (x + y).toInt = x.toInt + y.toInt := by
  rw [Int64.toInt_add]
  exact Int.bmod_eq_of_le (by omega) (by omega)
theorem i64_lt {x y : Int64} : x < y ↔ x.toInt < y.toInt := Int64.lt_iff_toInt_lt
/-- sessions, but for the row k of one that is under way -/
def z_S1x (A : w_A) (k : Nat) : Prop := ∀ s, s < vN A 2 0 → 1 ≤ vN A 13 s ∧ vN A 13 s ≤ vN A 1 0 ∧ 0 ≤ (vJ A 5 s).toInt ∧ (¬ s = k → (∃ q, 1 ≤ q ∧ q ≤ vN A 0 0 ∧ vI A 20 s = Int32.ofNat q) ∧ ∃ e, vI A 21 s = Int32.ofNat e ∧ vN A 5 0 < e ∧ e ≤ vN A 5 0 + 600)
theorem S1_x {A : w_A} (h : z_S1 A) (k : Nat) : z_S1x A k := fun s hs => ⟨(h s hs).1, (h s hs).2.1, (h s hs).2.2.1, fun _ => (h s hs).2.2.2⟩
/-- what an account has -/
theorem S2_bd {A : w_A} (h1 : ∀ s, s < vN A 2 0 → 0 ≤ (vJ A 5 s).toInt) (h2 : z_S2 A) {a : Nat} (ha : a < vN A 1 0) : 0 ≤ (vJ A 2 a).toInt ∧ (vJ A 2 a).toInt ≤ (vJ A 1 a).toInt ∧ (vJ A 1 a).toInt ≤ 1152921504606846976 := by
  obtain ⟨g1, g2, g3⟩ := h2 a ha
  refine ⟨?_, g1, g2⟩
  rw [g3]
  refine sum_pos fun s hs => ?_
  try dsimp only
  split
  · exact h1 s hs
  · exact Int.le_refl _
theorem free_int {A : w_A} {a : Nat} (h : 0 ≤ (vJ A 2 a).toInt ∧ (vJ A 2 a).toInt ≤ (vJ A 1 a).toInt ∧ (vJ A 1 a).toInt ≤ 1152921504606846976) : (fn_free A a).toInt = (vJ A 1 a).toInt - (vJ A 2 a).toInt := by
  unfold fn_free
  exact i64_sub (by omega) (by omega)
theorem S_settle {A : w_A} {s : Nat} {u : Int64} (h1 : z_S1 A) (h2 : z_S2 A) (hs : s < vN A 2 0) (hu : 0 ≤ u.toInt) : z_S1 (fn_settle A s u) ∧ z_S2 (fn_settle A s u) ∧ vJ (fn_settle A s u) 5 s = 0 := by
  have hsa := h1 s hs
  have hg0 : ∀ r, r < vN A 2 0 → 0 ≤ (vJ A 5 r).toInt := fun r hr => (h1 r hr).2.2.1
  have hb := S2_bd hg0 h2 (a := vN A 13 s - 1) (by omega)
  have hle : (vJ A 5 s).toInt ≤ (vJ A 2 (vN A 13 s - 1)).toInt := by
    rw [(h2 (vN A 13 s - 1) (by omega)).2.2]
    have := sum_ge (f := fun r => if vN A 13 r = vN A 13 s - 1 + 1 then (vJ A 5 r).toInt else 0) (k := s) hs (fun r hr => by
      try dsimp only
      split
      · exact hg0 r hr
      · exact Int.le_refl _)
    rw [if_pos (show vN A 13 s = vN A 13 s - 1 + 1 by omega)] at this
    exact this
  have eG : ∀ r, vJ (fn_settle A s u) 5 r = if r = s then 0 else vJ A 5 r := by
    intro r
    unfold fn_settle
    simp only [ev_rd, ev_st, aEl, z_w, z_cat, Nat.reduceMod, Nat.reduceDiv, Nat.reduceLeDiff, Nat.reduceLT, Nat.reduceAdd, Nat.reduceMul, Nat.reduceSub, Nat.reduceEqDiff, Int32.reduceLT, Int32.reduceLE, Int32.reduceAdd, Int32.reduceSub, Int32.reduceMul, true_and, and_true, false_and, and_false, true_or, or_true, false_or, or_false, not_true_eq_false, not_false_eq_true, if_true, if_false, reduceIte, ne_eq, and_self, or_self, reduceCtorEq, Option.some.injEq, Prod.mk.injEq, vJ_sJ]
  have eR : ∀ a, vJ (fn_settle A s u) 2 a = if a = vN A 13 s - 1 then vJ A 2 (vN A 13 s - 1) - vJ A 5 s else vJ A 2 a := by
    intro a
    unfold fn_settle
    simp only [ev_rd, ev_st, aEl, z_w, z_cat, Nat.reduceMod, Nat.reduceDiv, Nat.reduceLeDiff, Nat.reduceLT, Nat.reduceAdd, Nat.reduceMul, Nat.reduceSub, Nat.reduceEqDiff, Int32.reduceLT, Int32.reduceLE, Int32.reduceAdd, Int32.reduceSub, Int32.reduceMul, true_and, and_true, false_and, and_false, true_or, or_true, false_or, or_false, not_true_eq_false, not_false_eq_true, if_true, if_false, reduceIte, ne_eq, and_self, or_self, reduceCtorEq, Option.some.injEq, Prod.mk.injEq, vJ_sJ]
  have eB : ∀ a, vJ (fn_settle A s u) 1 a = if a = vN A 13 s - 1 then vJ A 1 (vN A 13 s - 1) - (if vJ A 5 s < u then vJ A 5 s else u) else vJ A 1 a := by
    intro a
    unfold fn_settle
    simp only [ev_rd, ev_st, aEl, z_w, z_cat, Nat.reduceMod, Nat.reduceDiv, Nat.reduceLeDiff, Nat.reduceLT, Nat.reduceAdd, Nat.reduceMul, Nat.reduceSub, Nat.reduceEqDiff, Int32.reduceLT, Int32.reduceLE, Int32.reduceAdd, Int32.reduceSub, Int32.reduceMul, true_and, and_true, false_and, and_false, true_or, or_true, false_or, or_false, not_true_eq_false, not_false_eq_true, if_true, if_false, reduceIte, ne_eq, and_self, or_self, reduceCtorEq, Option.some.injEq, Prod.mk.injEq, vJ_sJ]
  refine ⟨fun r hr => ?_, fun a ha => ?_, by rw [eG, if_pos rfl]⟩
  · have h := h1 r hr
    refine ⟨h.1, h.2.1, ?_, h.2.2.2⟩
    rw [eG]
    split
    · decide
    · exact h.2.2.1
  · have ha : a < vN A 1 0 := ha
    obtain ⟨g1, g2, g3⟩ := h2 a ha
    have hba := S2_bd hg0 h2 ha
    have hsum : z_sum (fun r => if vN (fn_settle A s u) 13 r = a + 1 then (vJ (fn_settle A s u) 5 r).toInt else 0) (vN (fn_settle A s u) 2 0) = z_sum (fun r => if vN A 13 r = a + 1 then (vJ A 5 r).toInt else 0) (vN A 2 0) - (if vN A 13 s = a + 1 then (vJ A 5 s).toInt else 0) := by
      have := sum_upd (f := fun r => if vN A 13 r = a + 1 then (vJ A 5 r).toInt else 0) (g := fun r => if vN A 13 r = a + 1 then (vJ (fn_settle A s u) 5 r).toInt else 0) (k := s) hs (fun r hr hne => by
        try dsimp only
        rw [eG, if_neg hne])
      show z_sum (fun r => if vN A 13 r = a + 1 then (vJ (fn_settle A s u) 5 r).toInt else 0) (vN A 2 0) = _
      rw [this]
      try dsimp only
      rw [eG, if_pos rfl]
      have z0 : ((0 : Int64)).toInt = 0 := rfl
      rw [z0]
      split <;> omega
    rw [hsum, ← g3, eR, eB]
    by_cases e : a = vN A 13 s - 1
    · have e2 : vN A 13 s = a + 1 := by omega
      rw [if_pos e, if_pos e, if_pos e2, ← e]
      rw [← e] at hle
      have c1 : 0 ≤ (if vJ A 5 s < u then vJ A 5 s else u).toInt ∧ (if vJ A 5 s < u then vJ A 5 s else u).toInt ≤ (vJ A 5 s).toInt := by
        split
        · exact ⟨hsa.2.2.1, Int.le_refl _⟩
        · rename_i hlt
          rw [i64_lt] at hlt
          exact ⟨hu, by omega⟩
      rw [i64_sub (by omega) (by have := hsa.2.2.1; omega), i64_sub (by omega) (by omega)]
      omega
    · have e2 : ¬ vN A 13 s = a + 1 := by omega
      rw [if_neg e, if_neg e, if_neg e2]
      omega
theorem units_used {A : w_A} {P : w_P} : 0 ≤ (fn_used A P).toInt := by
  unfold fn_used
  split
  · decide
  · rename_i h
    rw [i64_lt] at h
    have : (0 : Int64).toInt = 0 := rfl
    omega
/-- a session is granted -/
theorem S_ng {A : w_A} {P : w_P} {p s : Nat} (h1 : z_S1x A s) (h2 : z_S2 A) (hs : s < vN A 2 0) (h0 : vJ A 5 s = 0) (hp : p < vN A 0 0) : z_S1 (fn_grant (fn_note A P p s) P s) ∧ z_S2 (fn_grant (fn_note A P p s) P s) := by
  have hsa := h1 s hs
  have hg0 : ∀ r, r < vN A 2 0 → 0 ≤ (vJ A 5 r).toInt := fun r hr => (h1 r hr).2.2.1
  have hb := S2_bd hg0 h2 (a := vN A 13 s - 1) (by omega)
  have hfr := free_int hb
  generalize hw : (if fn_units (vI A 64) P 437 < 0 then (1000 : Int64) else fn_units (vI A 64) P 437) = w
  have hw0 : 0 ≤ w.toInt := by
    rw [← hw]
    split
    · decide
    · rename_i h
      rw [i64_lt] at h
      have : (0 : Int64).toInt = 0 := rfl
      omega
  generalize hg : (if fn_free A (vN A 13 s - 1) < w then fn_free A (vN A 13 s - 1) else w) = g
  have hgb : 0 ≤ g.toInt ∧ g.toInt ≤ (vJ A 1 (vN A 13 s - 1)).toInt - (vJ A 2 (vN A 13 s - 1)).toInt := by
    rw [← hg]
    split
    · rw [hfr]; omega
    · rename_i h
      rw [i64_lt, hfr] at h
      omega
  have eG : ∀ r, vJ (fn_grant (fn_note A P p s) P s) 5 r = if r = s then g else vJ A 5 r := by
    intro r
    rw [← hg, ← hw]
    unfold fn_grant fn_note fn_free
    simp only [ev_rd, ev_st, aEl, z_w, z_cat, Nat.reduceMod, Nat.reduceDiv, Nat.reduceLeDiff, Nat.reduceLT, Nat.reduceAdd, Nat.reduceMul, Nat.reduceSub, Nat.reduceEqDiff, Int32.reduceLT, Int32.reduceLE, Int32.reduceAdd, Int32.reduceSub, Int32.reduceMul, true_and, and_true, false_and, and_false, true_or, or_true, false_or, or_false, not_true_eq_false, not_false_eq_true, if_true, if_false, reduceIte, ne_eq, and_self, or_self, reduceCtorEq, Option.some.injEq, Prod.mk.injEq, vJ_sJ]
    try rfl
  have eR : ∀ a, vJ (fn_grant (fn_note A P p s) P s) 2 a = if a = vN A 13 s - 1 then vJ A 2 (vN A 13 s - 1) + g else vJ A 2 a := by
    intro a
    rw [← hg, ← hw]
    unfold fn_grant fn_note fn_free
    simp only [ev_rd, ev_st, aEl, z_w, z_cat, Nat.reduceMod, Nat.reduceDiv, Nat.reduceLeDiff, Nat.reduceLT, Nat.reduceAdd, Nat.reduceMul, Nat.reduceSub, Nat.reduceEqDiff, Int32.reduceLT, Int32.reduceLE, Int32.reduceAdd, Int32.reduceSub, Int32.reduceMul, true_and, and_true, false_and, and_false, true_or, or_true, false_or, or_false, not_true_eq_false, not_false_eq_true, if_true, if_false, reduceIte, ne_eq, and_self, or_self, reduceCtorEq, Option.some.injEq, Prod.mk.injEq, vJ_sJ]
    try rfl
  have eB : ∀ a, vJ (fn_grant (fn_note A P p s) P s) 1 a = vJ A 1 a := by
    intro a
    unfold fn_grant fn_note
    simp only [ev_rd, ev_st, aEl, z_w, z_cat, Nat.reduceMod, Nat.reduceDiv, Nat.reduceLeDiff, Nat.reduceLT, Nat.reduceAdd, Nat.reduceMul, Nat.reduceSub, Nat.reduceEqDiff, Int32.reduceLT, Int32.reduceLE, Int32.reduceAdd, Int32.reduceSub, Int32.reduceMul, true_and, and_true, false_and, and_false, true_or, or_true, false_or, or_false, not_true_eq_false, not_false_eq_true, if_true, if_false, reduceIte, ne_eq, and_self, or_self, reduceCtorEq, Option.some.injEq, Prod.mk.injEq, vJ_sJ]
  have eP : ∀ r, vI (fn_grant (fn_note A P p s) P s) 20 r = if r = s then Int32.ofNat (p + 1) else vI A 20 r := by
    intro r
    unfold fn_grant fn_note
    simp only [ev_rd, ev_st, aEl, z_w, z_cat, Nat.reduceMod, Nat.reduceDiv, Nat.reduceLeDiff, Nat.reduceLT, Nat.reduceAdd, Nat.reduceMul, Nat.reduceSub, Nat.reduceEqDiff, Int32.reduceLT, Int32.reduceLE, Int32.reduceAdd, Int32.reduceSub, Int32.reduceMul, true_and, and_true, false_and, and_false, true_or, or_true, false_or, or_false, not_true_eq_false, not_false_eq_true, if_true, if_false, reduceIte, ne_eq, and_self, or_self, reduceCtorEq, Option.some.injEq, Prod.mk.injEq, vI_sI]
  have eS : ∀ r, vI (fn_grant (fn_note A P p s) P s) 21 r = if r = s then Int32.ofNat (vN A 5 0 + 600) else vI A 21 r := by
    intro r
    unfold fn_grant fn_note
    simp only [ev_rd, ev_st, aEl, z_w, z_cat, Nat.reduceMod, Nat.reduceDiv, Nat.reduceLeDiff, Nat.reduceLT, Nat.reduceAdd, Nat.reduceMul, Nat.reduceSub, Nat.reduceEqDiff, Int32.reduceLT, Int32.reduceLE, Int32.reduceAdd, Int32.reduceSub, Int32.reduceMul, true_and, and_true, false_and, and_false, true_or, or_true, false_or, or_false, not_true_eq_false, not_false_eq_true, if_true, if_false, reduceIte, ne_eq, and_self, or_self, reduceCtorEq, Option.some.injEq, Prod.mk.injEq, vI_sI]
    try rfl
  refine ⟨fun r hr => ?_, fun a ha => ?_⟩
  · have hr : r < vN A 2 0 := hr
    have h := h1 r hr
    refine ⟨h.1, h.2.1, ?_, ?_, ?_⟩
    · rw [eG]
      split
      · exact hgb.1
      · exact h.2.2.1
    · rw [eP]
      show ∃ q, 1 ≤ q ∧ q ≤ vN A 0 0 ∧ _
      by_cases e : r = s
      · rw [if_pos e]; exact ⟨p + 1, by omega, by omega, rfl⟩
      · rw [if_neg e]; exact (h.2.2.2 e).1
    · rw [eS]
      show ∃ e, _ ∧ vN A 5 0 < e ∧ e ≤ vN A 5 0 + 600
      by_cases e : r = s
      · rw [if_pos e]; exact ⟨vN A 5 0 + 600, rfl, by omega, by omega⟩
      · rw [if_neg e]; exact (h.2.2.2 e).2
  · have ha : a < vN A 1 0 := ha
    obtain ⟨g1, g2, g3⟩ := h2 a ha
    have hba := S2_bd hg0 h2 ha
    have hsum : z_sum (fun r => if vN (fn_grant (fn_note A P p s) P s) 13 r = a + 1 then (vJ (fn_grant (fn_note A P p s) P s) 5 r).toInt else 0) (vN (fn_grant (fn_note A P p s) P s) 2 0) = z_sum (fun r => if vN A 13 r = a + 1 then (vJ A 5 r).toInt else 0) (vN A 2 0) + (if vN A 13 s = a + 1 then g.toInt else 0) := by
      have := sum_upd (f := fun r => if vN A 13 r = a + 1 then (vJ A 5 r).toInt else 0) (g := fun r => if vN A 13 r = a + 1 then (vJ (fn_grant (fn_note A P p s) P s) 5 r).toInt else 0) (k := s) hs (fun r hr hne => by
        try dsimp only
        rw [eG, if_neg hne])
      show z_sum (fun r => if vN A 13 r = a + 1 then (vJ (fn_grant (fn_note A P p s) P s) 5 r).toInt else 0) (vN A 2 0) = _
      rw [this]
      try dsimp only
      rw [eG, if_pos rfl, h0]
      have z0 : ((0 : Int64)).toInt = 0 := rfl
      rw [z0]
      split <;> omega
    rw [hsum, ← g3, eR, eB]
    by_cases e : a = vN A 13 s - 1
    · have e2 : vN A 13 s = a + 1 := by omega
      rw [if_pos e, if_pos e2, ← e]
      rw [← e] at hgb
      rw [i64_add (by omega) (by omega)]
      omega
    · have e2 : ¬ vN A 13 s = a + 1 := by omega
      rw [if_neg e, if_neg e2]
      omega
theorem S_n2 {A : w_A} {P : w_P} {p s : Nat} (h1 : z_S1x A s) (h2 : z_S2 A) (hp : p < vN A 0 0) : z_S1 (sI (fn_note A P p s) 21 s (Int32.ofNat (vN A 5 0 + 600))) ∧ z_S2 (sI (fn_note A P p s) 21 s (Int32.ofNat (vN A 5 0 + 600))) := by
  have eP : ∀ r, vI (sI (fn_note A P p s) 21 s (Int32.ofNat (vN A 5 0 + 600))) 20 r = if r = s then Int32.ofNat (p + 1) else vI A 20 r := by
    intro r
    unfold fn_note
    simp only [ev_rd, ev_st, aEl, z_w, z_cat, Nat.reduceMod, Nat.reduceDiv, Nat.reduceLeDiff, Nat.reduceLT, Nat.reduceAdd, Nat.reduceMul, Nat.reduceSub, Nat.reduceEqDiff, Int32.reduceLT, Int32.reduceLE, Int32.reduceAdd, Int32.reduceSub, Int32.reduceMul, true_and, and_true, false_and, and_false, true_or, or_true, false_or, or_false, not_true_eq_false, not_false_eq_true, if_true, if_false, reduceIte, ne_eq, and_self, or_self, reduceCtorEq, Option.some.injEq, Prod.mk.injEq, vI_sI]
  have eS : ∀ r, vI (sI (fn_note A P p s) 21 s (Int32.ofNat (vN A 5 0 + 600))) 21 r = if r = s then Int32.ofNat (vN A 5 0 + 600) else vI A 21 r := by
    intro r
    unfold fn_note
    simp only [ev_rd, ev_st, aEl, z_w, z_cat, Nat.reduceMod, Nat.reduceDiv, Nat.reduceLeDiff, Nat.reduceLT, Nat.reduceAdd, Nat.reduceMul, Nat.reduceSub, Nat.reduceEqDiff, Int32.reduceLT, Int32.reduceLE, Int32.reduceAdd, Int32.reduceSub, Int32.reduceMul, true_and, and_true, false_and, and_false, true_or, or_true, false_or, or_false, not_true_eq_false, not_false_eq_true, if_true, if_false, reduceIte, ne_eq, and_self, or_self, reduceCtorEq, Option.some.injEq, Prod.mk.injEq, vI_sI]
  have eJ : ∀ {v : Nat} (r : Nat), v ≠ 6 → vJ (sI (fn_note A P p s) 21 s (Int32.ofNat (vN A 5 0 + 600))) v r = vJ A v r := by
    intro v r hv
    unfold fn_note
    show vJ (sJ _ 6 s _) v r = _
    rw [vJ_sJ, if_neg (fun g => hv g.1)]
    rfl
  refine ⟨fun r hr => ?_, fun a ha => ?_⟩
  · have hr : r < vN A 2 0 := hr
    have h := h1 r hr
    refine ⟨h.1, h.2.1, ?_, ?_, ?_⟩
    · rw [eJ r (by decide)]; exact h.2.2.1
    · rw [eP]
      show ∃ q, 1 ≤ q ∧ q ≤ vN A 0 0 ∧ _
      by_cases e : r = s
      · rw [if_pos e]; exact ⟨p + 1, by omega, by omega, rfl⟩
      · rw [if_neg e]; exact (h.2.2.2 e).1
    · rw [eS]
      show ∃ e, _ ∧ vN A 5 0 < e ∧ e ≤ vN A 5 0 + 600
      by_cases e : r = s
      · rw [if_pos e]; exact ⟨vN A 5 0 + 600, rfl, by omega, by omega⟩
      · rw [if_neg e]; exact (h.2.2.2 e).2
  · have ha : a < vN A 1 0 := ha
    rw [eJ a (v := 2) (by decide), eJ a (v := 1) (by decide)]
    have e : (fun r => if vN (sI (fn_note A P p s) 21 s (Int32.ofNat (vN A 5 0 + 600))) 13 r = a + 1 then (vJ (sI (fn_note A P p s) 21 s (Int32.ofNat (vN A 5 0 + 600))) 5 r).toInt else 0) = (fun r => if vN A 13 r = a + 1 then (vJ A 5 r).toInt else 0) := by
      funext r
      rw [eJ r (v := 5) (by decide)]
      rfl
    rw [e]
    exact h2 a ha
theorem S_remove {A : w_A} {s : Nat} (h1 : z_S1 A) (h2 : z_S2 A) (hs : s < vN A 2 0) (h0 : vJ A 5 s = 0) : z_S1 (fn_remove A s) ∧ z_S2 (fn_remove A s) := by
  have pick : ∀ r, r < vN A 2 0 - 1 → ∃ r', r' < vN A 2 0 ∧ ∀ {α : Type} (f : Nat → α), fn_out (vN A 2 0) s f r = f r' := by
    intro r hr
    by_cases e : s ≤ r
    · exact ⟨r + 1, by omega, fun f => if_pos ⟨e, by omega⟩⟩
    · exact ⟨r, by omega, fun f => if_neg (by omega)⟩
  refine ⟨fun r hr => ?_, fun a ha => ?_⟩
  · have hr : r < vN A 2 0 - 1 := hr
    obtain ⟨r', h', e⟩ := pick r hr
    show 1 ≤ fn_out (vN A 2 0) s (vN A 13) r ∧ fn_out (vN A 2 0) s (vN A 13) r ≤ vN A 1 0 ∧ 0 ≤ (fn_out (vN A 2 0) s (vJ A 5) r).toInt ∧ (∃ q, 1 ≤ q ∧ q ≤ vN A 0 0 ∧ fn_out (vN A 2 0) s (vI A 20) r = Int32.ofNat q) ∧ ∃ e, fn_out (vN A 2 0) s (vI A 21) r = Int32.ofNat e ∧ vN A 5 0 < e ∧ e ≤ vN A 5 0 + 600
    rw [e, e, e, e]
    exact h1 r' h'
  · have ha : a < vN A 1 0 := ha
    obtain ⟨g1, g2, g3⟩ := h2 a ha
    refine ⟨g1, g2, ?_⟩
    show (vJ A 2 a).toInt = z_sum (fun r => if fn_out (vN A 2 0) s (vN A 13) r = a + 1 then (fn_out (vN A 2 0) s (vJ A 5) r).toInt else 0) (vN A 2 0 - 1)
    have := sum_out (f := fun r => if vN A 13 r = a + 1 then (vJ A 5 r).toInt else 0) (g := fun r => if fn_out (vN A 2 0) s (vN A 13) r = a + 1 then (fn_out (vN A 2 0) s (vJ A 5) r).toInt else 0) (k := s) (n := vN A 2 0 - 1) (by omega) (fun r hr => by
        have e : ∀ {α : Type} (f : Nat → α), fn_out (vN A 2 0) s f r = f r := fun f => if_neg (by omega)
        try dsimp only
        rw [e, e]) (fun r hr1 hr2 => by
        have e : ∀ {α : Type} (f : Nat → α), fn_out (vN A 2 0) s f r = f (r + 1) := fun f => if_pos ⟨hr1, by omega⟩
        try dsimp only
        rw [e, e])
    rw [this, show vN A 2 0 - 1 + 1 = vN A 2 0 by omega, ← g3]
    try dsimp only
    rw [h0]
    have z0 : ((0 : Int64)).toInt = 0 := rfl
    rw [z0]
    split <;> omega
theorem acct_lt {A : w_A} {v : Int64} {a : Nat} (h : fn_acct A v = some a) : a < vN A 1 0 := (fn_first_some h).1
theorem sub_lt {A : w_A} {P : w_P} {a : Nat} (h : fn_sub A P = some a) : a < vN A 1 0 := by
  unfold fn_sub at h
  split at h
  · cases h
  · split at h
    · cases h
    · cases hd : fn_dig (vI A 64) (pC P) _ _ 0 with
      | none => rw [hd] at h; cases h
      | some v => rw [hd] at h; exact acct_lt h
theorem S_event {A : w_A} {P : w_P} {act : Int32} (h1 : z_S1 A) (h2 : z_S2 A) : z_S1 (fn_event A P act).1 ∧ z_S2 (fn_event A P act).1 := by
  unfold fn_event
  cases hs : fn_sub A P with
  | none => exact ⟨h1, h2⟩
  | some a =>
    try dsimp only
    have ha := sub_lt hs
    have hg0 : ∀ r, r < vN A 2 0 → 0 ≤ (vJ A 5 r).toInt := fun r hr => (h1 r hr).2.2.1
    have hb := S2_bd hg0 h2 ha
    have hfr := free_int hb
    generalize hw : (if fn_units (vI A 64) P 437 < 0 then (0 : Int64) else fn_units (vI A 64) P 437) = w
    have hw0 : 0 ≤ w.toInt := by
      rw [← hw]
      split
      · decide
      · rename_i h
        rw [i64_lt] at h
        have : (0 : Int64).toInt = 0 := rfl
        omega
    split
    · exact ⟨h1, h2⟩
    · split
      · split
        · exact ⟨h1, h2⟩
        · rename_i hlt
          rw [i64_lt, hfr] at hlt
          refine ⟨h1, fun b hb' => ?_⟩
          obtain ⟨g1, g2, g3⟩ := h2 b hb'
          simp only [ev_rd, ev_st, aEl, z_w, z_cat, Nat.reduceMod, Nat.reduceDiv, Nat.reduceLeDiff, Nat.reduceLT, Nat.reduceAdd, Nat.reduceMul, Nat.reduceSub, Nat.reduceEqDiff, Int32.reduceLT, Int32.reduceLE, Int32.reduceAdd, Int32.reduceSub, Int32.reduceMul, true_and, and_true, false_and, and_false, true_or, or_true, false_or, or_false, not_true_eq_false, not_false_eq_true, if_true, if_false, reduceIte, ne_eq, and_self, or_self, reduceCtorEq, Option.some.injEq, Prod.mk.injEq, vJ_sJ]
          by_cases e : b = a
          · subst e
            simp only [ev_rd, ev_st, aEl, z_w, z_cat, Nat.reduceMod, Nat.reduceDiv, Nat.reduceLeDiff, Nat.reduceLT, Nat.reduceAdd, Nat.reduceMul, Nat.reduceSub, Nat.reduceEqDiff, Int32.reduceLT, Int32.reduceLE, Int32.reduceAdd, Int32.reduceSub, Int32.reduceMul, true_and, and_true, false_and, and_false, true_or, or_true, false_or, or_false, not_true_eq_false, not_false_eq_true, if_true, if_false, reduceIte, ne_eq, and_self, or_self, reduceCtorEq, Option.some.injEq, Prod.mk.injEq]
            rw [i64_sub (by omega) (by omega)]
            refine ⟨by omega, by omega, g3⟩
          · simp only [e, ev_rd, ev_st, aEl, z_w, z_cat, Nat.reduceMod, Nat.reduceDiv, Nat.reduceLeDiff, Nat.reduceLT, Nat.reduceAdd, Nat.reduceMul, Nat.reduceSub, Nat.reduceEqDiff, Int32.reduceLT, Int32.reduceLE, Int32.reduceAdd, Int32.reduceSub, Int32.reduceMul, true_and, and_true, false_and, and_false, true_or, or_true, false_or, or_false, not_true_eq_false, not_false_eq_true, if_true, if_false, reduceIte, ne_eq, and_self, or_self, reduceCtorEq, Option.some.injEq, Prod.mk.injEq]
            exact ⟨g1, g2, g3⟩
      · split
        · exact ⟨h1, h2⟩
        · rename_i hlt
          have e6 : (1152921504606846976 - vJ A 1 a : Int64).toInt = 1152921504606846976 - (vJ A 1 a).toInt := by
            rw [i64_sub (by decide) (by omega)]
            rfl
          rw [i64_lt, e6] at hlt
          refine ⟨h1, fun b hb' => ?_⟩
          obtain ⟨g1, g2, g3⟩ := h2 b hb'
          simp only [ev_rd, ev_st, aEl, z_w, z_cat, Nat.reduceMod, Nat.reduceDiv, Nat.reduceLeDiff, Nat.reduceLT, Nat.reduceAdd, Nat.reduceMul, Nat.reduceSub, Nat.reduceEqDiff, Int32.reduceLT, Int32.reduceLE, Int32.reduceAdd, Int32.reduceSub, Int32.reduceMul, true_and, and_true, false_and, and_false, true_or, or_true, false_or, or_false, not_true_eq_false, not_false_eq_true, if_true, if_false, reduceIte, ne_eq, and_self, or_self, reduceCtorEq, Option.some.injEq, Prod.mk.injEq, vJ_sJ]
          by_cases e : b = a
          · subst e
            simp only [ev_rd, ev_st, aEl, z_w, z_cat, Nat.reduceMod, Nat.reduceDiv, Nat.reduceLeDiff, Nat.reduceLT, Nat.reduceAdd, Nat.reduceMul, Nat.reduceSub, Nat.reduceEqDiff, Int32.reduceLT, Int32.reduceLE, Int32.reduceAdd, Int32.reduceSub, Int32.reduceMul, true_and, and_true, false_and, and_false, true_or, or_true, false_or, or_false, not_true_eq_false, not_false_eq_true, if_true, if_false, reduceIte, ne_eq, and_self, or_self, reduceCtorEq, Option.some.injEq, Prod.mk.injEq]
            rw [i64_add (by omega) (by omega)]
            refine ⟨by omega, by omega, g3⟩
          · simp only [e, ev_rd, ev_st, aEl, z_w, z_cat, Nat.reduceMod, Nat.reduceDiv, Nat.reduceLeDiff, Nat.reduceLT, Nat.reduceAdd, Nat.reduceMul, Nat.reduceSub, Nat.reduceEqDiff, Int32.reduceLT, Int32.reduceLE, Int32.reduceAdd, Int32.reduceSub, Int32.reduceMul, true_and, and_true, false_and, and_false, true_or, or_true, false_or, or_false, not_true_eq_false, not_false_eq_true, if_true, if_false, reduceIte, ne_eq, and_self, or_self, reduceCtorEq, Option.some.injEq, Prod.mk.injEq]
            exact ⟨g1, g2, g3⟩
