/-! PART 85b (src 85b.wdecide.src): a credit's decision, and the messages of a peer, keep what always holds -/
set_option maxHeartbeats 800000
/-- names that a credit writes -/
theorem SN_row {A B : w_A} {s : Nat} (h : ∀ r, r < vN B 2 0 → ¬ r = s → r < vN A 2 0 ∧ vL B 4 r = vL A 4 r ∧ vL B 5 r = vL A 5 r ∧ vL B 6 r = vL A 6 r) (hs : z_nm (vL B 4 s) ∧ z_nm (vL B 5 s) ∧ z_nm (vL B 6 s)) (hA : z_SN A) : z_SN B := by
  intro r hr
  by_cases e : r = s
  · rw [e]; exact hs
  · obtain ⟨h1, h2, h3, h4⟩ := h r hr e
    rw [h2, h3, h4]
    exact hA r h1
/-- what a decision leaves as it was, beside what z_df says -/
def z_dk (A D : w_A) : Prop := z_df A D ∧ (∀ i, vJ D 4 i = vJ A 4 i) ∧ vN D 2 0 ≤ 16 ∧ (∀ s, vN D 13 s ≤ 16) ∧ z_SN D ∧ z_S1 D ∧ z_S2 D
theorem dk_B {n : Nat} {A D : w_A} (h : z_dk A D) (hB : z_B n A) : z_B n D := by
  obtain ⟨⟨d1, d2, d3, d4⟩, -, h2, h3, h4, -⟩ := h
  obtain ⟨b1, b2, b3, b4, b5, b6, b7, b8, b9, b10, b11, b12, b13⟩ := hB
  have eN : ∀ {v : Nat} (i : Nat), v ≠ 2 → v ≠ 13 → v ≠ 16 → v ≠ 17 → vN D v i = vN A v i := fun i a b c d => d3 _ i a b c d
  have eL : ∀ {v : Nat} (i : Nat), v ≠ 4 → v ≠ 5 → v ≠ 6 → vL D v i = vL A v i := fun i a b c => d2 _ i a b c
  refine ⟨⟨?_, ?_, h2, ?_, ?_, ?_⟩, ?_, fun p => ?_, fun c => ?_, fun i => ?_, h3, ?_, ?_, fun p => ?_, fun i => ?_, h4, fun s hs => ?_, fun k => ?_⟩
  · rw [eN 0 (by decide) (by decide) (by decide) (by decide)]; exact b1.1
  · rw [eN 0 (by decide) (by decide) (by decide) (by decide)]; exact b1.2.1
  · rw [eN 0 (by decide) (by decide) (by decide) (by decide)]; exact b1.2.2.2.1
  · rw [eN 0 (by decide) (by decide) (by decide) (by decide)]; exact b1.2.2.2.2.1
  · rw [eN 0 (by decide) (by decide) (by decide) (by decide)]; exact b1.2.2.2.2.2
  · rw [eN 0 (by decide) (by decide) (by decide) (by decide)]; exact b2
  · rw [eN p (v := 9) (by decide) (by decide) (by decide) (by decide), eN p (v := 10) (by decide) (by decide) (by decide) (by decide)]; exact b3 p
  · rw [eN c (v := 11) (by decide) (by decide) (by decide) (by decide), eN c (v := 14) (by decide) (by decide) (by decide) (by decide)]; exact b4 c
  · rw [eN i (by decide) (by decide) (by decide) (by decide)]; exact b5 i
  · rw [eL 0 (by decide) (by decide) (by decide)]; exact b7
  · rw [eL 0 (by decide) (by decide) (by decide)]; exact b8
  · rw [eL p (by decide) (by decide) (by decide)]; exact b9 p
  · rw [eL i (v := 7) (by decide) (by decide) (by decide), eL i (v := 8) (by decide) (by decide) (by decide), eL i (v := 9) (by decide) (by decide) (by decide)]; exact b10 i
  · rw [eN 0 (v := 4) (by decide) (by decide) (by decide) (by decide)] at hs
    rw [eL s (v := 11) (by decide) (by decide) (by decide), eL s (v := 10) (by decide) (by decide) (by decide)]
    exact b12 s hs
  · rw [d1 64 k (by decide) (by decide) (by decide)]; exact b13 k
theorem decide_dk {A : w_A} {P : w_P} {p n : Nat} (hB : z_B n A) (hS1 : z_S1 A) (hS2 : z_S2 A) (hSN : z_SN A) (hr : z_rP (vI A 64) P) (hp : p < vN A 0 0) : z_dk A (fn_decide A P p).1 := by
  have hb := hB.1
  have hIB := hB.2.2.2.2.2.2.2.2.2.2.2.2
  have n1 := rP_taken hIB hr (show fn_kind 263 = 1 by decide)
  have n2 := rP_taken hIB hr (show fn_kind 264 = 1 by decide)
  have n3 := rP_taken hIB hr (show fn_kind 296 = 1 by decide)
  have triv : z_dk A A := ⟨df_refl A, fun _ => rfl, by omega, hB.2.2.2.2.2.1, hSN, hS1, hS2⟩
  refine ⟨(decide_df A P p).1, ?_⟩
  have triv := triv.2
  unfold fn_decide
  dsimp only
  split
  · exact triv
  split
  · unfold fn_begins
    cases hsub : fn_sub A P with
    | none => exact triv
    | some a =>
      have ha := sub_lt hsub
      dsimp only
      split
      · exact triv
      · rename_i hns
        split
        · exact triv
        · have h16 : ¬ vN A 2 0 = 16 := fun e => hns (.inr e)
          generalize hs : vN A 2 0 = s at *
          generalize hX : sJ (sN (sL (sN A 2 0 (s + 1)) 4 s (fn_taken (vI A 64) P 263)) 13 s (a + 1)) 5 s 0 = X
          have eG : ∀ r, vJ X 5 r = if r = s then 0 else vJ A 5 r := fun r => by rw [← hX]; simp only [ev_rd, ev_st, aEl, z_w, z_cat, Nat.reduceMod, Nat.reduceDiv, Nat.reduceLeDiff, Nat.reduceLT, Nat.reduceAdd, Nat.reduceMul, Nat.reduceSub, Nat.reduceEqDiff, Int32.reduceLT, Int32.reduceLE, Int32.reduceAdd, Int32.reduceSub, Int32.reduceMul, true_and, and_true, false_and, and_false, true_or, or_true, false_or, or_false, not_true_eq_false, not_false_eq_true, if_true, if_false, reduceIte, ne_eq, and_self, or_self, reduceCtorEq, Option.some.injEq, Prod.mk.injEq, vJ_sJ]
          have eA : ∀ r, vN X 13 r = if r = s then a + 1 else vN A 13 r := fun r => by rw [← hX]; simp only [ev_rd, ev_st, aEl, z_w, z_cat, Nat.reduceMod, Nat.reduceDiv, Nat.reduceLeDiff, Nat.reduceLT, Nat.reduceAdd, Nat.reduceMul, Nat.reduceSub, Nat.reduceEqDiff, Int32.reduceLT, Int32.reduceLE, Int32.reduceAdd, Int32.reduceSub, Int32.reduceMul, true_and, and_true, false_and, and_false, true_or, or_true, false_or, or_false, not_true_eq_false, not_false_eq_true, if_true, if_false, reduceIte, ne_eq, and_self, or_self, reduceCtorEq, Option.some.injEq, Prod.mk.injEq, vN_sN]
          have eS : vN X 2 0 = s + 1 := by rw [← hX]; rfl
          have eP : vN X 0 0 = vN A 0 0 := by rw [← hX]; rfl
          have eC : vN X 1 0 = vN A 1 0 := by rw [← hX]; rfl
          have eW : vN X 5 0 = vN A 5 0 := by rw [← hX]; rfl
          have eI : ∀ v r, vI X v r = vI A v r := fun v r => by rw [← hX]; rfl
          have eR : ∀ r, vJ X 2 r = vJ A 2 r ∧ vJ X 1 r = vJ A 1 r := fun r => by rw [← hX]; exact ⟨rfl, rfl⟩
          have hx1 : z_S1x X s := by
            intro r hr
            rw [eS] at hr
            rw [eA, eG, eP, eC, eW, eI, eI]
            by_cases e : r = s
            · rw [if_pos e, if_pos e]
              exact ⟨by omega, by omega, by decide, fun q => absurd e q⟩
            · rw [if_neg e, if_neg e]
              have := hS1 r (by omega)
              exact ⟨this.1, this.2.1, this.2.2.1, fun _ => this.2.2.2⟩
          have hx2 : z_S2 X := by
            intro b hb
            rw [eC] at hb
            rw [(eR b).1, (eR b).2, eS]
            obtain ⟨g1, g2, g3⟩ := hS2 b hb
            refine ⟨g1, g2, ?_⟩
            rw [g3, hs]
            show _ = z_sum _ s + _
            dsimp only
            rw [eG, if_pos rfl]
            have z0 : ((0 : Int64)).toInt = 0 := rfl
            rw [z0, ite_self, Int.add_zero]
            exact (sum_cong fun r hr => by
              have e : ¬ r = s := by omega
              rw [eA, eG, if_neg e, if_neg e]).symm
          have hng := S_ng (P := P) (p := p) hx1 hx2 (by rw [eS]; omega) (by rw [eG, if_pos rfl]) (by rw [eP]; exact hp)
          refine ⟨fun _ => by rw [← hX]; rfl, ?_, fun r => ?_, ?_, hng.1, hng.2⟩
          · show vN X 2 0 ≤ 16
            rw [eS]; omega
          · show vN X 13 r ≤ 16
            rw [eA]
            have := hB.2.2.2.2.2.1 r
            split <;> omega
          · refine SN_row (A := A) (s := s) (fun r hr hne => ?_) ?_ hSN
            · have hr : r < vN X 2 0 := hr
              rw [eS] at hr
              refine ⟨by omega, ?_, ?_, ?_⟩ <;> (unfold fn_grant fn_note; rw [← hX]; simp only [ev_rd, ev_st, aEl, z_w, z_cat, Nat.reduceMod, Nat.reduceDiv, Nat.reduceLeDiff, Nat.reduceLT, Nat.reduceAdd, Nat.reduceMul, Nat.reduceSub, Nat.reduceEqDiff, Int32.reduceLT, Int32.reduceLE, Int32.reduceAdd, Int32.reduceSub, Int32.reduceMul, true_and, and_true, false_and, and_false, true_or, or_true, false_or, or_false, not_true_eq_false, not_false_eq_true, if_true, if_false, reduceIte, ne_eq, and_self, or_self, reduceCtorEq, Option.some.injEq, Prod.mk.injEq, vL_sL, hne])
            · refine ⟨?_, ?_, ?_⟩
              · have : vL (fn_grant (fn_note X P p s) P s) 4 s = fn_taken (vI A 64) P 263 := by unfold fn_grant fn_note; rw [← hX]; simp only [ev_rd, ev_st, aEl, z_w, z_cat, Nat.reduceMod, Nat.reduceDiv, Nat.reduceLeDiff, Nat.reduceLT, Nat.reduceAdd, Nat.reduceMul, Nat.reduceSub, Nat.reduceEqDiff, Int32.reduceLT, Int32.reduceLE, Int32.reduceAdd, Int32.reduceSub, Int32.reduceMul, true_and, and_true, false_and, and_false, true_or, or_true, false_or, or_false, not_true_eq_false, not_false_eq_true, if_true, if_false, reduceIte, ne_eq, and_self, or_self, reduceCtorEq, Option.some.injEq, Prod.mk.injEq, vL_sL]
                rw [this]; exact n1
              · have : vL (fn_grant (fn_note X P p s) P s) 5 s = fn_taken (vI X 64) P 264 := by unfold fn_grant fn_note; simp only [ev_rd, ev_st, aEl, z_w, z_cat, Nat.reduceMod, Nat.reduceDiv, Nat.reduceLeDiff, Nat.reduceLT, Nat.reduceAdd, Nat.reduceMul, Nat.reduceSub, Nat.reduceEqDiff, Int32.reduceLT, Int32.reduceLE, Int32.reduceAdd, Int32.reduceSub, Int32.reduceMul, true_and, and_true, false_and, and_false, true_or, or_true, false_or, or_false, not_true_eq_false, not_false_eq_true, if_true, if_false, reduceIte, ne_eq, and_self, or_self, reduceCtorEq, Option.some.injEq, Prod.mk.injEq, vL_sL]
                rw [this, show vI X 64 = vI A 64 from funext fun r => eI _ r]; exact n2
              · have : vL (fn_grant (fn_note X P p s) P s) 6 s = fn_taken (vI X 64) P 296 := by unfold fn_grant fn_note; simp only [ev_rd, ev_st, aEl, z_w, z_cat, Nat.reduceMod, Nat.reduceDiv, Nat.reduceLeDiff, Nat.reduceLT, Nat.reduceAdd, Nat.reduceMul, Nat.reduceSub, Nat.reduceEqDiff, Int32.reduceLT, Int32.reduceLE, Int32.reduceAdd, Int32.reduceSub, Int32.reduceMul, true_and, and_true, false_and, and_false, true_or, or_true, false_or, or_false, not_true_eq_false, not_false_eq_true, if_true, if_false, reduceIte, ne_eq, and_self, or_self, reduceCtorEq, Option.some.injEq, Prod.mk.injEq, vL_sL] <;> rfl
                rw [this, show vI X 64 = vI A 64 from funext fun r => eI _ r]; exact n3
  split
  · unfold fn_goes
    cases hse : fn_sess A P with
    | none => exact triv
    | some s =>
      have hs := sess_lt hse
      dsimp only
      split
      · exact triv
      · obtain ⟨a1, a2, a3⟩ := S_settle (u := fn_used A P) hS1 hS2 hs units_used
        have rows : ∀ D : w_A, vL D = vL (fn_note (fn_settle A s (fn_used A P)) P p s) → vN D 2 0 = vN A 2 0 → z_SN D := by
          intro D e1 e2
          refine SN_row (A := A) (s := s) (fun r hr hne => ?_) ?_ hSN
          · rw [e2] at hr
            rw [e1]
            refine ⟨hr, ?_, ?_, ?_⟩ <;> (unfold fn_note; simp only [ev_rd, ev_st, aEl, z_w, z_cat, Nat.reduceMod, Nat.reduceDiv, Nat.reduceLeDiff, Nat.reduceLT, Nat.reduceAdd, Nat.reduceMul, Nat.reduceSub, Nat.reduceEqDiff, Int32.reduceLT, Int32.reduceLE, Int32.reduceAdd, Int32.reduceSub, Int32.reduceMul, true_and, and_true, false_and, and_false, true_or, or_true, false_or, or_false, not_true_eq_false, not_false_eq_true, if_true, if_false, reduceIte, ne_eq, and_self, or_self, reduceCtorEq, Option.some.injEq, Prod.mk.injEq, vL_sL, hne]) <;> rfl
          · rw [e1]
            refine ⟨?_, ?_, ?_⟩
            · exact (hSN s hs).1
            · have : vL (fn_note (fn_settle A s (fn_used A P)) P p s) 5 s = fn_taken (vI A 64) P 264 := by unfold fn_note; simp only [ev_rd, ev_st, aEl, z_w, z_cat, Nat.reduceMod, Nat.reduceDiv, Nat.reduceLeDiff, Nat.reduceLT, Nat.reduceAdd, Nat.reduceMul, Nat.reduceSub, Nat.reduceEqDiff, Int32.reduceLT, Int32.reduceLE, Int32.reduceAdd, Int32.reduceSub, Int32.reduceMul, true_and, and_true, false_and, and_false, true_or, or_true, false_or, or_false, not_true_eq_false, not_false_eq_true, if_true, if_false, reduceIte, ne_eq, and_self, or_self, reduceCtorEq, Option.some.injEq, Prod.mk.injEq, vL_sL] <;> rfl
              rw [this]; exact n2
            · have : vL (fn_note (fn_settle A s (fn_used A P)) P p s) 6 s = fn_taken (vI A 64) P 296 := by unfold fn_note; simp only [ev_rd, ev_st, aEl, z_w, z_cat, Nat.reduceMod, Nat.reduceDiv, Nat.reduceLeDiff, Nat.reduceLT, Nat.reduceAdd, Nat.reduceMul, Nat.reduceSub, Nat.reduceEqDiff, Int32.reduceLT, Int32.reduceLE, Int32.reduceAdd, Int32.reduceSub, Int32.reduceMul, true_and, and_true, false_and, and_false, true_or, or_true, false_or, or_false, not_true_eq_false, not_false_eq_true, if_true, if_false, reduceIte, ne_eq, and_self, or_self, reduceCtorEq, Option.some.injEq, Prod.mk.injEq, vL_sL] <;> rfl
              rw [this]; exact n3
        split
        · have := S_ng (P := P) (p := p) (S1_x a1 s) a2 hs a3 hp
          exact ⟨fun _ => rfl, by show vN A 2 0 ≤ 16; omega, hB.2.2.2.2.2.1, rows _ rfl rfl, this.1, this.2⟩
        · have := S_n2 (P := P) (p := p) (S1_x a1 s) a2 hp
          exact ⟨fun _ => rfl, by show vN A 2 0 ≤ 16; omega, hB.2.2.2.2.2.1, rows _ rfl rfl, this.1, this.2⟩
  split
  · unfold fn_ends
    cases hse : fn_sess A P with
    | none => exact triv
    | some s =>
      have hs := sess_lt hse
      dsimp only
      split
      · exact triv
      · obtain ⟨a1, a2, a3⟩ := S_settle (u := fn_used A P) hS1 hS2 hs units_used
        have := S_remove a1 a2 hs a3
        refine ⟨fun _ => rfl, by show vN A 2 0 - 1 ≤ 16; omega, fun r => ?_, fun r hr => ?_, this.1, this.2⟩
        · show fn_out (vN A 2 0) s (vN A 13) r ≤ 16
          unfold fn_out
          split
          · exact hB.2.2.2.2.2.1 _
          · exact hB.2.2.2.2.2.1 _
        · have hr : r < vN A 2 0 - 1 := hr
          show z_nm (fn_out (vN A 2 0) s (vL A 4) r) ∧ z_nm (fn_out (vN A 2 0) s (vL A 5) r) ∧ z_nm (fn_out (vN A 2 0) s (vL A 6) r)
          unfold fn_out
          by_cases e : s ≤ r ∧ r + 1 < vN A 2 0
          · rw [if_pos e, if_pos e, if_pos e]; exact hSN (r + 1) (by omega)
          · rw [if_neg e, if_neg e, if_neg e]; exact hSN r (by omega)
  · have hev := S_event (P := P) (act := (fn_n (vI A 64) P 436).toInt32) hS1 hS2
    revert hev
    unfold fn_event
    cases hsub : fn_sub A P with
    | none => exact fun _ => triv
    | some a =>
      dsimp only
      generalize (if fn_units (vI A 64) P 437 < 0 then (0 : Int64) else fn_units (vI A 64) P 437) = w
      split
      · exact fun _ => triv
      · split
        · split
          · exact fun _ => triv
          · exact fun h => ⟨fun _ => rfl, triv.2.1, triv.2.2.1, hSN, h.1, h.2⟩
        · split
          · exact fun _ => triv
          · exact fun h => ⟨fun _ => rfl, triv.2.1, triv.2.2.1, hSN, h.1, h.2⟩
