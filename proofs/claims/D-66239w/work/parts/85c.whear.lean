/-! PART 85c (src 85c.whear.src): what is done with a message keeps what always holds -/
set_option maxHeartbeats 800000
def z_cf (A D : w_A) : Prop := (∀ v i, v ≤ 17 → v ≠ 14 → vI D v i = vI A v i) ∧ (∀ v i, v = 0 ∨ v = 3 ∨ (5 ≤ v ∧ v ≤ 12) ∨ v = 14 ∨ v = 19 → vN D v i = vN A v i) ∧ ∀ i, vJ D 4 i = vJ A 4 i
theorem cf_trans {A B C : w_A} (h : z_cf A B) (g : z_cf B C) : z_cf A C := ⟨fun v i a b => (g.1 v i a b).trans (h.1 v i a b), fun v i a => (g.2.1 v i a).trans (h.2.1 v i a), fun i => (g.2.2 i).trans (h.2.2 i)⟩
theorem cf_sm {A D : w_A} (f : z_cf A D) : z_sm A D := ⟨fun _ => f.2.1 _ _ (by decide), fun _ => f.2.1 _ _ (by decide), fun _ => f.2.1 _ _ (by decide), fun _ => f.1 _ _ (by decide) (by decide), fun _ => f.1 _ _ (by decide) (by decide), f.2.1 _ _ (by decide)⟩
theorem cf_sv {A D : w_A} (f : z_cf A D) : z_sv A D := ⟨fun _ => f.1 _ _ (by decide) (by decide), fun _ => f.1 _ _ (by decide) (by decide), fun _ => f.1 _ _ (by decide) (by decide), fun _ => f.1 _ _ (by decide) (by decide), fun _ => f.1 _ _ (by decide) (by decide), fun _ => f.1 _ _ (by decide) (by decide), f.2.2, fun _ => f.2.1 _ _ (by decide), fun _ => f.2.1 _ _ (by decide)⟩
theorem C_cf {n : Nat} {A D : w_A} (h : z_C n A) (f : z_cf A D) (hB : z_B n D) : z_C n D := by
  obtain ⟨⟨-, hL, hQ⟩, hlk, hpp⟩ := h
  have eN : ∀ {v : Nat} (i : Nat), v = 0 ∨ v = 3 ∨ (5 ≤ v ∧ v ≤ 12) ∨ v = 14 ∨ v = 19 → vN D v i = vN A v i := fun i e => f.2.1 _ i e
  have eI : ∀ {v : Nat} (i : Nat), v ≤ 17 → v ≠ 14 → vI D v i = vI A v i := fun i a b => f.1 _ i a b
  refine ⟨⟨hB, fun p => ?_, ⟨fun i hi => ?_, fun i hi => ?_⟩⟩, sm_lk (cf_sm f) (fun p => eI p (by decide) (by decide)) hlk, pp_cong (cf_sv f) (fun q => ⟨eN q (by decide), eN q (by decide)⟩) hpp⟩
  · rw [eI p (v := 0) (by decide) (by decide), eN p (v := 10) (by decide), eN p (v := 9) (by decide)]
    exact hL p
  · rw [eN 0 (v := 3) (by decide)] at hi
    rw [eN 0 (v := 6) (by decide), eI i (v := 15) (by decide) (by decide), eI i (v := 17) (by decide) (by decide), eI i (v := 16) (by decide) (by decide), eN i (v := 12) (by decide)]
    exact hQ.1 i hi
  · rw [eN 0 (v := 3) (by decide)] at hi
    rw [eI i (v := 15) (by decide) (by decide), eI i (v := 17) (by decide) (by decide), eN i (v := 12) (by decide), f.2.2]
    exact hQ.2 i hi
theorem tm_cf {A D : w_A} (h : z_tm A) (f : z_cf A D) : z_tm D := by
  have eN : ∀ {v : Nat} (i : Nat), v = 0 ∨ v = 3 ∨ (5 ≤ v ∧ v ≤ 12) ∨ v = 14 ∨ v = 19 → vN D v i = vN A v i := fun i e => f.2.1 _ i e
  refine ⟨fun p => ?_, fun p hp => ?_⟩
  · rw [eN p (v := 8) (by decide), eN 0 (v := 5) (by decide), eN p (v := 7) (by decide)]
    exact h.1 p
  · rw [eN 0 (v := 0) (by decide)] at hp
    rw [eN p (v := 8) (by decide), eN 0 (v := 5) (by decide), eN p (v := 7) (by decide)]
    unfold fn_given fn_up
    rw [f.1 0 p (by decide) (by decide)]
    exact h.2 p hp
theorem stale_cf (A : w_A) : z_cf A (fn_stale A) := ⟨fun v i a b => stl_I (by show v ≠ 18; omega) i _ _, fun v i a => stl_N (by show v ≠ 4; omega) (by show v ≠ 15; omega) (by show v ≠ 18; omega) i _ _, fun i => stl_J _ i _ _⟩
theorem W_stale {n : Nat} {A : w_A} (h : z_W n A) : z_W n (fn_stale A) := by
  obtain ⟨hC, ht, h1, h2, h3, h4, h5, h6, h7, h8⟩ := h
  have eN : ∀ {v : Nat} (i : Nat), v ≠ 4 → v ≠ 15 → v ≠ 18 → vN (fn_stale A) v i = vN A v i := fun i a b c => stl_N a b c i _ _
  have eJ : ∀ v i, vJ (fn_stale A) v i = vJ A v i := fun v i => stl_J v i _ _
  have eL : ∀ {v : Nat} (i : Nat), v ≠ 10 → v ≠ 11 → vL (fn_stale A) v i = vL A v i := fun i a b => stl_L a b i _ _
  have eI : ∀ {v : Nat} (i : Nat), v ≠ 18 → vI (fn_stale A) v i = vI A v i := fun i a => stl_I a i _ _
  refine ⟨C_cf hC (stale_cf A) (stl_B _ _ hC.1.1), tm_cf ht (stale_cf A), fun s hs => ?_, fun a ha => ?_, fun r hr => ?_, stl_KT _ _ h4, fun c hc1 hc8 g4 => ?_, ?_, ?_, fun r hr => ?_⟩
  · rw [eN 0 (by decide) (by decide) (by decide)] at hs
    rw [eN s (v := 13) (by decide) (by decide) (by decide), eN 0 (v := 1) (by decide) (by decide) (by decide), eJ, eN 0 (v := 0) (by decide) (by decide) (by decide), eI s (v := 20) (by decide), eI s (v := 21) (by decide), eN 0 (v := 5) (by decide) (by decide) (by decide)]
    exact h1 s hs
  · rw [eN 0 (by decide) (by decide) (by decide)] at ha
    rw [eJ, eJ, eN 0 (v := 2) (by decide) (by decide) (by decide)]
    have e : (fun s => if vN (fn_stale A) 13 s = a + 1 then (vJ (fn_stale A) 5 s).toInt else 0) = (fun s => if vN A 13 s = a + 1 then (vJ A 5 s).toInt else 0) := by
      funext s
      rw [eN s (by decide) (by decide) (by decide), eJ]
    rw [e]
    exact h2 a ha
  · rw [eN 0 (by decide) (by decide) (by decide)] at hr
    rw [eL r (v := 4) (by decide) (by decide), eL r (v := 5) (by decide) (by decide), eL r (v := 6) (by decide) (by decide)]
    exact h3 r hr
  · rw [eN c (by decide) (by decide) (by decide)] at g4 ⊢
    rw [show vI (fn_stale A) 64 = vI A 64 from funext fun i => eI i (by decide)]
    exact h5 c hc1 hc8 g4
  · exact ⟨by rw [eL 0 (by decide) (by decide)]; exact h6.1, fun p => by rw [eL p (by decide) (by decide)]; exact h6.2 p⟩
  · rw [eL 0 (by decide) (by decide)]; exact h7
  · rw [eN 0 (by decide) (by decide) (by decide)]; exact h8 r hr
/-! an answer is kept -/
theorem keep_N (A : w_A) (P : w_P) {v : Nat} (h1 : v ≠ 4) (h2 : v ≠ 15) (h3 : v ≠ 18) (i : Nat) : vN (fn_keep A P) v i = vN A v i := by
  unfold fn_keep
  dsimp only
  rw [vN_sN, if_neg (fun g => h1 g.1), vN_sN, if_neg (fun g => h2 g.1)]
  show vN (if vN A 4 0 = 32 then fn_drop1 A else A) v i = _
  split
  · exact drop1_N A h1 h2 h3 i
  · rfl
theorem keep_I (A : w_A) (P : w_P) {v : Nat} (h1 : v ≠ 18) (i : Nat) : vI (fn_keep A P) v i = vI A v i := by
  unfold fn_keep
  dsimp only
  show vI (sI _ 18 _ _) v i = _
  rw [vI_sI, if_neg (fun g => h1 g.1)]
  show vI (if vN A 4 0 = 32 then fn_drop1 A else A) v i = _
  split
  · exact drop1_I A h1 i
  · rfl
theorem keep_J (A : w_A) (P : w_P) (v i : Nat) : vJ (fn_keep A P) v i = vJ A v i := by
  unfold fn_keep
  dsimp only
  show vJ (if vN A 4 0 = 32 then fn_drop1 A else A) v i = _
  split
  · exact drop1_J A v i
  · rfl
theorem keep_L (A : w_A) (P : w_P) {v : Nat} (h1 : v ≠ 10) (h2 : v ≠ 11) (i : Nat) : vL (fn_keep A P) v i = vL A v i := by
  unfold fn_keep
  dsimp only
  show vL (sL (sL _ 11 _ _) 10 _ _) v i = _
  rw [vL_sL, if_neg (fun g => h1 g.1), vL_sL, if_neg (fun g => h2 g.1)]
  split
  · exact drop1_L A h1 h2 i
  · rfl
theorem keep_row {n : Nat} {A : w_A} {P : w_P} (hB : z_B n A) (hT : z_KT A) (hr : z_rP (vI A 64) P) (h20 : 20 ≤ (vL A 12 0).length) (h300 : (vL A 12 0).length ≤ 300) (hby : z_by (vL A 12 0)) : z_B n (fn_keep A P) ∧ z_KT (fn_keep A P) := by
  have hIB := hB.2.2.2.2.2.2.2.2.2.2.2.2
  have nm := rP_taken hIB hr (show fn_kind 264 = 1 by decide)
  have key : ∀ E : w_A, z_B n E → z_KT E → vN E 4 0 < 32 → vN E 5 0 = vN A 5 0 → z_B n (sN (sN (sI (sL (sL E 11 (vN E 4 0) (fn_taken (vI A 64) P 264)) 10 (vN E 4 0) (vL A 12 0)) 18 (vN E 4 0) (pE P)) 15 (vN E 4 0) (vN A 5 0)) 4 0 (vN E 4 0 + 1)) ∧ z_KT (sN (sN (sI (sL (sL E 11 (vN E 4 0) (fn_taken (vI A 64) P 264)) 10 (vN E 4 0) (vL A 12 0)) 18 (vN E 4 0) (pE P)) 15 (vN E 4 0) (vN A 5 0)) 4 0 (vN E 4 0 + 1)) := by
    intro E hE hKT hk hnow
    obtain ⟨b1, b2, b3, b4, b5, b6, b7, b8, b9, b10, b11, b12, b13⟩ := hE
    generalize hj : vN E 4 0 = j at *
    refine ⟨⟨⟨b1.1, b1.2.1, b1.2.2.1, b1.2.2.2.1, show j + 1 ≤ 32 by omega, b1.2.2.2.2.2⟩, b2, b3, b4, b5, b6, b7, b8, b9, b10, b11, fun s hs => ?_, b13⟩, fun s hs => ?_⟩
    · have hs : s < j + 1 := hs
      simp only [ev_rd, ev_st, aEl, z_w, z_cat, Nat.reduceMod, Nat.reduceDiv, Nat.reduceLeDiff, Nat.reduceLT, Nat.reduceAdd, Nat.reduceMul, Nat.reduceSub, Nat.reduceEqDiff, Int32.reduceLT, Int32.reduceLE, Int32.reduceAdd, Int32.reduceSub, Int32.reduceMul, true_and, and_true, false_and, and_false, true_or, or_true, false_or, or_false, not_true_eq_false, not_false_eq_true, if_true, if_false, reduceIte, ne_eq, and_self, or_self, reduceCtorEq, Option.some.injEq, Prod.mk.injEq, vL_sL]
      by_cases e : s = j
      · subst e
        simp only [ev_rd, ev_st, aEl, z_w, z_cat, Nat.reduceMod, Nat.reduceDiv, Nat.reduceLeDiff, Nat.reduceLT, Nat.reduceAdd, Nat.reduceMul, Nat.reduceSub, Nat.reduceEqDiff, Int32.reduceLT, Int32.reduceLE, Int32.reduceAdd, Int32.reduceSub, Int32.reduceMul, true_and, and_true, false_and, and_false, true_or, or_true, false_or, or_false, not_true_eq_false, not_false_eq_true, if_true, if_false, reduceIte, ne_eq, and_self, or_self, reduceCtorEq, Option.some.injEq, Prod.mk.injEq]
        exact ⟨nm, h300, h20, hby⟩
      · simp only [e, ev_rd, ev_st, aEl, z_w, z_cat, Nat.reduceMod, Nat.reduceDiv, Nat.reduceLeDiff, Nat.reduceLT, Nat.reduceAdd, Nat.reduceMul, Nat.reduceSub, Nat.reduceEqDiff, Int32.reduceLT, Int32.reduceLE, Int32.reduceAdd, Int32.reduceSub, Int32.reduceMul, true_and, and_true, false_and, and_false, true_or, or_true, false_or, or_false, not_true_eq_false, not_false_eq_true, if_true, if_false, reduceIte, ne_eq, and_self, or_self, reduceCtorEq, Option.some.injEq, Prod.mk.injEq]
        exact b12 s (by omega)
    · have hs : s < j + 1 := hs
      simp only [ev_rd, ev_st, aEl, z_w, z_cat, Nat.reduceMod, Nat.reduceDiv, Nat.reduceLeDiff, Nat.reduceLT, Nat.reduceAdd, Nat.reduceMul, Nat.reduceSub, Nat.reduceEqDiff, Int32.reduceLT, Int32.reduceLE, Int32.reduceAdd, Int32.reduceSub, Int32.reduceMul, true_and, and_true, false_and, and_false, true_or, or_true, false_or, or_false, not_true_eq_false, not_false_eq_true, if_true, if_false, reduceIte, ne_eq, and_self, or_self, reduceCtorEq, Option.some.injEq, Prod.mk.injEq, vN_sN]
      by_cases e : s = j
      · subst e
        simp only [ev_rd, ev_st, aEl, z_w, z_cat, Nat.reduceMod, Nat.reduceDiv, Nat.reduceLeDiff, Nat.reduceLT, Nat.reduceAdd, Nat.reduceMul, Nat.reduceSub, Nat.reduceEqDiff, Int32.reduceLT, Int32.reduceLE, Int32.reduceAdd, Int32.reduceSub, Int32.reduceMul, true_and, and_true, false_and, and_false, true_or, or_true, false_or, or_false, not_true_eq_false, not_false_eq_true, if_true, if_false, reduceIte, ne_eq, and_self, or_self, reduceCtorEq, Option.some.injEq, Prod.mk.injEq]
        omega
      · simp only [e, ev_rd, ev_st, aEl, z_w, z_cat, Nat.reduceMod, Nat.reduceDiv, Nat.reduceLeDiff, Nat.reduceLT, Nat.reduceAdd, Nat.reduceMul, Nat.reduceSub, Nat.reduceEqDiff, Int32.reduceLT, Int32.reduceLE, Int32.reduceAdd, Int32.reduceSub, Int32.reduceMul, true_and, and_true, false_and, and_false, true_or, or_true, false_or, or_false, not_true_eq_false, not_false_eq_true, if_true, if_false, reduceIte, ne_eq, and_self, or_self, reduceCtorEq, Option.some.injEq, Prod.mk.injEq]
        exact hKT s (by omega)
  unfold fn_keep
  dsimp only
  have hb := hB.1
  by_cases h : vN A 4 0 = 32
  · rw [if_pos h]
    exact key (fn_drop1 A) (drop1_B hB) (drop1_KT hT) (by rw [drop1_KEPTS]; omega) rfl
  · rw [if_neg h]
    exact key A hB hT (by omega) rfl
theorem W_credit {n : Nat} {A : w_A} (h : z_W n A) {P : w_P} (hr : z_rP (vI A 64) P) {p : Nat} (hp : p < vN A 0 0) (c : Nat) : z_W n (fn_credit A c p P) := by
  have hB := W_stale h
  have eIN : vI (fn_stale A) 64 = vI A 64 := funext fun i => stl_I (by decide) i _ _
  have hpB : p < vN (fn_stale A) 0 0 := by
    rw [show vN (fn_stale A) 0 0 = vN A 0 0 from stl_N (by decide) (by decide) (by decide) 0 _ _]; exact hp
  rw [← eIN] at hr
  unfold fn_credit
  dsimp only
  rw [← eIN]
  generalize fn_stale A = B at *
  clear h
  cases hk : fn_kept B P with
  | some i => exact W_send (W_page hB _) c
  | none =>
    dsimp only
    obtain ⟨hC, ht, h1, h2, h3, h4, h5, h6, h7, h8⟩ := hB
    have hBB := hC.1.1
    have hdk := decide_dk (A := sI (sN B 16 0 0) 19 0 (-1)) (P := P) (p := p) hBB h1 h2 h3 hr hpB
    generalize hR : fn_decide (sI (sN B 16 0 0) 19 0 (-1)) P p = R at *
    obtain ⟨D, res⟩ := R
    dsimp only at *
    have hDB := dk_B hdk (n := n) hBB
    obtain ⟨⟨d1, d2, d3, d4⟩, dq, -, -, dSN, dS1, dS2⟩ := hdk
    have dI : ∀ {v : Nat} (i : Nat), v ≠ 20 → v ≠ 21 → v ≠ 19 → vI D v i = vI B v i := fun {v} i a b c => (d1 v i a b c).trans (by rw [vI_sI, if_neg (fun g => c g.1)]; rfl)
    have dN : ∀ {v : Nat} (i : Nat), v ≠ 2 → v ≠ 13 → v ≠ 16 → v ≠ 17 → vN D v i = vN B v i := fun {v} i a b c d => (d3 v i a b c d).trans (by show vN (sN B 16 0 0) v i = _; rw [vN_sN, if_neg (fun g => c g.1)])
    have dL : ∀ {v : Nat} (i : Nat), v ≠ 4 → v ≠ 5 → v ≠ 6 → vL D v i = vL B v i := fun {v} i a b c => d2 v i a b c
    have eIND : vI D 64 = vI B 64 := funext fun i => dI i (by decide) (by decide) (by decide)
    have hrD : z_rP (vI D 64) P := by rw [eIND]; exact hr
    have hH := hDB.2.2.2.2.2.2.2.1
    have hIBD := hDB.2.2.2.2.2.2.2.2.2.2.2.2
    have hlen := fn_ans_len (res := res) hrD hH.1
    have hby := fn_ans_by (res := res) hrD hIBD hH.2
    have hKTD : z_KT D := fun k hk => by
      rw [dN 0 (by decide) (by decide) (by decide) (by decide)] at hk
      rw [dN k (v := 15) (by decide) (by decide) (by decide) (by decide), dN 0 (v := 5) (by decide) (by decide) (by decide) (by decide)]
      exact h4 k hk
    generalize hl : fn_ans D P res ++ fn_num 258 4 ++ fn_num 416 (fn_n (vI B 64) P 416).toInt32 ++ fn_num 415 (fn_n (vI B 64) P 415).toInt32 ++ (if vN D 16 0 = 0 then [] else fn_attr 431 16 ++ fn_attr 421 8 ++ b4 (vJ D 5 (vN D 16 0 - 1) >>> 32).toInt32 ++ b4 (vJ D 5 (vN D 16 0 - 1)).toInt32 ++ fn_num 448 600) ++ (if 0 ≤ vI D 19 0 then fn_num 422 (vI D 19 0) else []) = l
    have hll : 20 ≤ l.length ∧ l.length ≤ 300 ∧ z_by l := by
      rw [← hl]
      refine ⟨?_, ?_, ?_⟩
      · rw [List.length_append, List.length_append, List.length_append, List.length_append, List.length_append]; omega
      · rw [List.length_append, List.length_append, List.length_append, List.length_append, List.length_append, fn_num_len, fn_num_len, fn_num_len]
        have e1 : (if vN D 16 0 = 0 then [] else fn_attr 431 16 ++ fn_attr 421 8 ++ b4 (vJ D 5 (vN D 16 0 - 1) >>> 32).toInt32 ++ b4 (vJ D 5 (vN D 16 0 - 1)).toInt32 ++ fn_num 448 600).length ≤ 36 := by
          split
          · exact Nat.zero_le _
          · exact Nat.le_refl 36
        have e2 : (if 0 ≤ vI D 19 0 then fn_num 422 (vI D 19 0) else []).length ≤ 12 := by
          split
          · exact Nat.le_refl 12
          · exact Nat.zero_le _
        omega
      · refine z_by_app (z_by_app (z_by_app (z_by_app (z_by_app hby (fn_num_by _ _)) (fn_num_by _ _)) (fn_num_by _ _)) ?_) ?_
        · split
          · exact z_by_nil
          · exact z_by_app (z_by_app (z_by_app (z_by_app (fn_attr_by _ _) (fn_attr_by _ _)) (b4_by _)) (b4_by _)) (fn_num_by _ _)
        · split
          · exact fn_num_by _ _
          · exact z_by_nil
    obtain ⟨kB, kT⟩ := keep_row (A := fn_page D l) (P := P) (n := n) hDB hKTD hrD (by rw [fn_page_PG]; exact hll.1) (by rw [fn_page_PG]; exact hll.2.1) (by rw [fn_page_PG]; exact hll.2.2)
    have kN : ∀ {v : Nat} (i : Nat), v ≠ 4 → v ≠ 15 → v ≠ 18 → vN (fn_keep (fn_page D l) P) v i = vN D v i := fun i a b c => keep_N _ P a b c i
    have kI : ∀ {v : Nat} (i : Nat), v ≠ 18 → vI (fn_keep (fn_page D l) P) v i = vI D v i := fun i a => keep_I _ P a i
    have kJ : ∀ v i, vJ (fn_keep (fn_page D l) P) v i = vJ D v i := fun v i => keep_J _ P v i
    have kL : ∀ {v : Nat} (i : Nat), v ≠ 10 → v ≠ 11 → v ≠ 12 → vL (fn_keep (fn_page D l) P) v i = vL D v i := fun {v} i a b c => (keep_L _ P a b i).trans (vL_page _ _ c i)
    have hcf : z_cf B (fn_keep (fn_page D l) P) := by
      refine ⟨fun v i a b => ?_, fun v i a => ?_, fun i => ?_⟩
      · rw [kI i (by show v ≠ 18; omega), dI i (by show v ≠ 20; omega) (by show v ≠ 21; omega) (by show v ≠ 19; omega)]
      · rw [kN i (by show v ≠ 4; omega) (by show v ≠ 15; omega) (by show v ≠ 18; omega), dN i (by show v ≠ 2; omega) (by show v ≠ 13; omega) (by show v ≠ 16; omega) (by show v ≠ 17; omega)]
      · rw [kJ, dq]; rfl
    have hK : z_W n (sN (fn_keep (fn_page D l) P) 16 0 99) := by
      refine ⟨C_cf hC (cf_trans hcf ⟨fun _ _ _ _ => rfl, fun v i a => by rw [vN_sN, if_neg (fun g => by have := g.1; omega)], fun _ => rfl⟩) kB, tm_cf ht (cf_trans hcf ⟨fun _ _ _ _ => rfl, fun v i a => by rw [vN_sN, if_neg (fun g => by have := g.1; omega)], fun _ => rfl⟩), fun s hs => ?_, fun a ha => ?_, fun r hr => ?_, kT, fun c hc1 hc8 g4 => ?_, ⟨?_, fun p => ?_⟩, ?_, fun r hr e => absurd (show (99 : Nat) = r + 1 from e) (by omega)⟩
      · have hs : s < vN (fn_keep (fn_page D l) P) 2 0 := hs
        rw [kN 0 (by decide) (by decide) (by decide)] at hs
        show 1 ≤ vN (fn_keep (fn_page D l) P) 13 s ∧ vN (fn_keep (fn_page D l) P) 13 s ≤ vN (fn_keep (fn_page D l) P) 1 0 ∧ 0 ≤ (vJ (fn_keep (fn_page D l) P) 5 s).toInt ∧ (∃ q, 1 ≤ q ∧ q ≤ vN (fn_keep (fn_page D l) P) 0 0 ∧ vI (fn_keep (fn_page D l) P) 20 s = Int32.ofNat q) ∧ ∃ e, vI (fn_keep (fn_page D l) P) 21 s = Int32.ofNat e ∧ vN (fn_keep (fn_page D l) P) 5 0 < e ∧ e ≤ vN (fn_keep (fn_page D l) P) 5 0 + 600
        rw [kN s (v := 13) (by decide) (by decide) (by decide), kN 0 (v := 1) (by decide) (by decide) (by decide), kJ, kN 0 (v := 0) (by decide) (by decide) (by decide), kI s (v := 20) (by decide), kI s (v := 21) (by decide), kN 0 (v := 5) (by decide) (by decide) (by decide)]
        exact dS1 s hs
      · have ha : a < vN (fn_keep (fn_page D l) P) 1 0 := ha
        rw [kN 0 (by decide) (by decide) (by decide)] at ha
        show (vJ (fn_keep (fn_page D l) P) 2 a).toInt ≤ (vJ (fn_keep (fn_page D l) P) 1 a).toInt ∧ (vJ (fn_keep (fn_page D l) P) 1 a).toInt ≤ 1152921504606846976 ∧ (vJ (fn_keep (fn_page D l) P) 2 a).toInt = z_sum (fun s => if vN (fn_keep (fn_page D l) P) 13 s = a + 1 then (vJ (fn_keep (fn_page D l) P) 5 s).toInt else 0) (vN (fn_keep (fn_page D l) P) 2 0)
        rw [kJ, kJ, kN 0 (v := 2) (by decide) (by decide) (by decide)]
        have e : (fun s => if vN (fn_keep (fn_page D l) P) 13 s = a + 1 then (vJ (fn_keep (fn_page D l) P) 5 s).toInt else 0) = (fun s => if vN D 13 s = a + 1 then (vJ D 5 s).toInt else 0) := by
          funext s
          rw [kN s (by decide) (by decide) (by decide), kJ]
        rw [e]
        exact dS2 a ha
      · have hr : r < vN (fn_keep (fn_page D l) P) 2 0 := hr
        rw [kN 0 (by decide) (by decide) (by decide)] at hr
        show z_nm (vL (fn_keep (fn_page D l) P) 4 r) ∧ z_nm (vL (fn_keep (fn_page D l) P) 5 r) ∧ z_nm (vL (fn_keep (fn_page D l) P) 6 r)
        rw [kL r (v := 4) (by decide) (by decide) (by decide), kL r (v := 5) (by decide) (by decide) (by decide), kL r (v := 6) (by decide) (by decide) (by decide)]
        exact dSN r hr
      · have e1 : vN (fn_keep (fn_page D l) P) 14 c = vN B 14 c := by rw [kN c (by decide) (by decide) (by decide), dN c (by decide) (by decide) (by decide) (by decide)]
        have e2 : vI (fn_keep (fn_page D l) P) 64 = vI B 64 := funext fun i => (kI i (by decide)).trans (dI i (by decide) (by decide) (by decide))
        have g4 : 4 ≤ vN (fn_keep (fn_page D l) P) 14 c := g4
        show ∃ m, n3 (vI (fn_keep (fn_page D l) P) 64) c 1 = Int32.ofNat m ∧ 20 ≤ m ∧ m ≤ 600 ∧ m % 4 = 0 ∧ vN (fn_keep (fn_page D l) P) 14 c < m
        rw [e1] at g4 ⊢
        rw [e2]
        exact h5 c hc1 hc8 g4
      · show z_let (vL (fn_keep (fn_page D l) P) 1 0)
        rw [kL 0 (v := 1) (by decide) (by decide) (by decide), dL 0 (by decide) (by decide) (by decide)]; exact h6.1
      · show z_let (vL (fn_keep (fn_page D l) P) 2 p)
        rw [kL p (v := 2) (by decide) (by decide) (by decide), dL p (by decide) (by decide) (by decide)]; exact h6.2 p
      · show z_let (vL (fn_keep (fn_page D l) P) 0 0)
        rw [kL 0 (v := 0) (by decide) (by decide) (by decide), dL 0 (by decide) (by decide) (by decide)]; exact h7
    rw [sN_send]
    exact W_send hK c
