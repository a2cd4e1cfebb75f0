/-! PART 88d (src 88d.mdecide.src): the twin begins a session; decides -/
set_option maxHeartbeats 800000
theorem mc_first {T σ : z_St} {A : w_A} (hM : w_M T σ A) {P : w_P} (hP : vP A = some P) (hr : z_rP (vI A 64) P) (hw : pW P = 0) (h263 : (fn_find (pN P) 263).isSome = true) (h415 : (fn_find (pN P) 415).isSome = true) {n : Nat} (hB : z_B n A) (hS1 : z_S1 A) (hS2 : z_S2 A) (hSN : z_SN A) (hg : ∀ r, r < 16 → ¬ vN A 16 0 = r + 1) (hR : fn_right (vI A 64) P 437) {p : Nat} {d : Nat} {Q : z_St → Option z_V → Prop} (k : ∀ σ, w_M T σ (fn_begins A P p).1 → Q σ (some (.inl (fn_begins A P p).2))) : wp (zD (d + 6) 148 [.inr (.inr (some (8, 0))), .inl (Int32.ofNat p)] σ) Q := by
  have hb := hB.1
  have hIB := hB.2.2.2.2.2.2.2.2.2.2.2.2
  obtain ⟨hc1, hc8⟩ := rP_C hr
  unfold fn_begins at k
  refine wp_eq (c148 ..) (wp_eq (e148_0 ..) (wp_cr (mc_sub (d := d + 3) hM hP hr hw hIB (by omega) ⟨_, rfl, wp_asI0 ?_⟩)))
  cases hsub : fn_sub A P with
  | none =>
    rw [hsub] at k
    exact wp_if (fun q => absurd q (by decide)) (fun _ => wp_eq (e148_1 ..) (wp_ret (k σ hM)))
  | some a =>
    rw [hsub] at k
    dsimp only at k
    have haa := sub_lt hsub
    have ha : a < 16 := by omega
    have ha31 : a < 2147483648 := by omega
    rw [show fn_ix (some a) = Int32.ofNat a from rfl]
    refine wp_if (fun _ => ?_) (fun q => absurd (io_pos ha31) q)
    refine wp_eq (e148_2 ..) (wp_cr (mc_sess (d := d + 3) hM hP hr h263 hSN (by omega) ⟨_, rfl, wp_asI0 ?_⟩))
    have full : ((fn_sess A P).isSome = true ∨ vN A 2 0 = 16) → wp (E xP148 (zD (d + 5)) 4 [none, none, none, none] [] σ) Q := by
      intro h
      rw [if_pos h] at k
      exact wp_eq (e148_4 ..) (wp_ret (k σ hM))
    cases hses : fn_sess A P with
    | some s => exact wp_if (fun _ => full (.inl (by rw [hses]; rfl))) (fun q => absurd (io_pos (by have := sess_lt hses; omega)) q)
    | none =>
      refine wp_if (fun q => absurd q (by decide)) (fun _ => ?_)
      refine wp_eq (e148_3 ..) ?_
      rw [rm_SESS hM]
      refine wp_if (fun h => ?_) (fun h => ?_) <;> rw [io_eq_l (by omega) (by decide)] at h
      · exact full (.inr h)
      have h : ¬ vN A 2 0 = 16 := h
      rw [hses, if_neg (fun q => q.elim (fun q => by cases q) h)] at k
      refine wp_eq (e148_5 ..) (wp_cr (mc_free (d := d + 4) hM ha rfl ⟨_, rfl, wp_asJ0 ?_⟩))
      refine wp_if (fun h0 => ?_) (fun h0 => ?_) <;> rw [lg_eq] at h0
      · rw [if_pos h0] at k
        exact wp_eq (e148_6 ..) (wp_ret (k σ hM))
      rw [if_neg h0] at k
      obtain ⟨s, hs⟩ : ∃ s, s = vN A 2 0 := ⟨_, rfl⟩
      have hs16 : s < 16 := by omega
      have hs31 : s < 2147483648 := by omega
      have hy : (41 : Int32) * Int32.ofNat s = Int32.ofNat (41 * s) := io_mul 41 s
      obtain ⟨l1, l2, l3, a0, g0, c0, p0, e0, k1, k2, k3, hM1⟩ := wm_more hM hs.symm hs16 hg
      refine wp_eq (e148_7 ..) ?_
      rw [rm_SESS hM, ← hs, io_add_l, hy]
      refine wp_sw ?_
      rw [← hs] at k
      generalize wI σ 8 40 0 (Int32.ofNat (s + 1)) = σ1 at *
      clear hM
      obtain ⟨q3, hq3⟩ := some_of h263
      have b3 := rP_txt hr (by decide) q3 hq3
      have g3 := (mm_key (rm_msg hM1 (P := P) hP) (k := 0) (by decide)).2 q3 hq3
      have m67 := (rm_msg hM1 (P := P) hP).1
      have hr41 := rm_p41 hM1
      refine wp_cv ?_
      rw [hr41]
      have z1 : ∀ r, r < s + 1 → (vL (sI (sI (sJ (sJ (sN (sL (sL (sL (sN A 2 0 (s + 1)) 4 s l1) 5 s l2) 6 s l3) 13 s a0) 5 s g0) 6 s c0) 20 s p0) 21 s e0) 4 r).length ≤ 40 ∧ (vL (sI (sI (sJ (sJ (sN (sL (sL (sL (sN A 2 0 (s + 1)) 4 s l1) 5 s l2) 6 s l3) 13 s a0) 5 s g0) 6 s c0) 20 s p0) 21 s e0) 5 r).length ≤ 40 ∧ (vL (sI (sI (sJ (sJ (sN (sL (sL (sL (sN A 2 0 (s + 1)) 4 s l1) 5 s l2) 6 s l3) 13 s a0) 5 s g0) 6 s c0) 20 s p0) 21 s e0) 6 r).length ≤ 40 := by
        intro r hr
        simp only [ev_rd, ev_st, aEl, z_w, z_cat, Nat.reduceMod, Nat.reduceDiv, Nat.reduceLeDiff, Nat.reduceLT, Nat.reduceAdd, Nat.reduceMul, Nat.reduceSub, Nat.reduceEqDiff, Int32.reduceLT, Int32.reduceLE, Int32.reduceAdd, Int32.reduceSub, Int32.reduceMul, true_and, and_true, false_and, and_false, true_or, or_true, false_or, or_false, not_true_eq_false, not_false_eq_true, if_true, if_false, reduceIte, ne_eq, and_self, or_self, reduceCtorEq, Option.some.injEq, Prod.mk.injEq, vI_sI, vJ_sJ, vN_sN, vL_sL]
        by_cases e : r = s
        · simp only [e, ev_rd, ev_st, aEl, z_w, z_cat, Nat.reduceMod, Nat.reduceDiv, Nat.reduceLeDiff, Nat.reduceLT, Nat.reduceAdd, Nat.reduceMul, Nat.reduceSub, Nat.reduceEqDiff, Int32.reduceLT, Int32.reduceLE, Int32.reduceAdd, Int32.reduceSub, Int32.reduceMul, true_and, and_true, false_and, and_false, true_or, or_true, false_or, or_false, not_true_eq_false, not_false_eq_true, if_true, if_false, reduceIte, ne_eq, and_self, or_self, reduceCtorEq, Option.some.injEq, Prod.mk.injEq]
          exact ⟨k1, k2, k3⟩
        · have := hSN r (by omega)
          simp only [e, ev_rd, ev_st, aEl, z_w, z_cat, Nat.reduceMod, Nat.reduceDiv, Nat.reduceLeDiff, Nat.reduceLT, Nat.reduceAdd, Nat.reduceMul, Nat.reduceSub, Nat.reduceEqDiff, Int32.reduceLT, Int32.reduceLE, Int32.reduceAdd, Int32.reduceSub, Int32.reduceMul, true_and, and_true, false_and, and_false, true_or, or_true, false_or, or_false, not_true_eq_false, not_false_eq_true, if_true, if_false, reduceIte, ne_eq, and_self, or_self, reduceCtorEq, Option.some.injEq, Prod.mk.injEq]
          exact ⟨this.1.1, this.2.1.1, this.2.2.1⟩
      have hsess : vN (sI (sI (sJ (sJ (sN (sL (sL (sL (sN A 2 0 (s + 1)) 4 s l1) 5 s l2) 6 s l3) 13 s a0) 5 s g0) 6 s c0) 20 s p0) 21 s e0) 2 0 = s + 1 := by
        simp only [ev_rd, ev_st, aEl, z_w, z_cat, Nat.reduceMod, Nat.reduceDiv, Nat.reduceLeDiff, Nat.reduceLT, Nat.reduceAdd, Nat.reduceMul, Nat.reduceSub, Nat.reduceEqDiff, Int32.reduceLT, Int32.reduceLE, Int32.reduceAdd, Int32.reduceSub, Int32.reduceMul, true_and, and_true, false_and, and_false, true_or, or_true, false_or, or_false, not_true_eq_false, not_false_eq_true, if_true, if_false, reduceIte, ne_eq, and_self, or_self, reduceCtorEq, Option.some.injEq, Prod.mk.injEq, vI_sI, vJ_sJ, vN_sN, vL_sL]
      have hnote := note_eq (sN A 2 0 (s + 1)) P p s l1 l2 l3 (fn_taken (vI A 64) P 263) a0 (a + 1) g0 c0 p0 e0
      have fP : vP (sI (sI (sJ (sJ (sN (sL (sL (sL (sN A 2 0 (s + 1)) 4 s l1) 5 s l2) 6 s l3) 13 s a0) 5 s g0) 6 s c0) 20 s p0) 21 s e0) = some P := hP
      have fI : vI (sI (sI (sJ (sJ (sN (sL (sL (sL (sN A 2 0 (s + 1)) 4 s l1) 5 s l2) 6 s l3) 13 s a0) 5 s g0) 6 s c0) 20 s p0) 21 s e0) 64 = vI A 64 := rfl
      have fG : ∀ r, r < 16 → ¬ vN (sI (sI (sJ (sJ (sN (sL (sL (sL (sN A 2 0 (s + 1)) 4 s l1) 5 s l2) 6 s l3) 13 s a0) 5 s g0) 6 s c0) 20 s p0) 21 s e0) 16 0 = r + 1 := hg
      have fN : vN (sI (sI (sJ (sJ (sN (sL (sL (sL (sN A 2 0 (s + 1)) 4 s l1) 5 s l2) 6 s l3) 13 s a0) 5 s g0) 6 s c0) 20 s p0) 21 s e0) 5 0 = vN A 5 0 := rfl
      generalize sI (sI (sJ (sJ (sN (sL (sL (sL (sN A 2 0 (s + 1)) 4 s l1) 5 s l2) 6 s l3) 13 s a0) 5 s g0) 6 s c0) 20 s p0) 21 s e0 = G at *
      refine mc_copyText (d := d + 4) (c := pC P) (k := 0) hM1 m67 hc8 (by decide) g3.1 g3.2 b3.1 b3.2.2 (fun k => by rw [fI]; exact hIB k) aty_40915473 (by rw [alen_40915473]; omega) (by rw [alen_40915473]; decide) (by decide) rfl rfl fun f f1 f2 f3 => ⟨rfl, ?_⟩
      rw [fI] at f2
      have hM := wm_SNAME hM1 (s := s) hs16 (fun r hr => (z1 r (by rw [hsess] at hr; exact hr)).1) (l := fn_taken (vI A 64) P 263) (by rw [taken_of hq3, text_len]; exact b3.2.2) (by rw [taken_of hq3, text_len]; exact f1) (by rw [taken_of hq3]; exact f2) f3
      generalize rI σ1 40915473 0 f = σ at hM
      refine (wp_ar (rm_p44 hM) aty_44040720 alen_44040720 rfl (by omega) (by decide) ?_)
      simp only [io_nat hs31]
      refine wp_swM (wm_SACC hM s (a + 1)) fun σ hM => ?_
      have z2 : ∀ r, r < vN (sN (sL G 4 s (fn_taken (vI A 64) P 263)) 13 s (a + 1)) 2 0 → (vL (sN (sL G 4 s (fn_taken (vI A 64) P 263)) 13 s (a + 1)) 5 r).length ≤ 40 := fun r hr => (z1 r (by rw [← hsess]; exact hr)).2.1
      have z3 : ∀ r, r < vN (sN (sL G 4 s (fn_taken (vI A 64) P 263)) 13 s (a + 1)) 2 0 → (vL (sN (sL G 4 s (fn_taken (vI A 64) P 263)) 13 s (a + 1)) 6 r).length ≤ 40 := fun r hr => (z1 r (by rw [← hsess]; exact hr)).2.2
      have xP : vP (sN (sL G 4 s (fn_taken (vI A 64) P 263)) 13 s (a + 1)) = some P := fP
      have xI : vI (sN (sL G 4 s (fn_taken (vI A 64) P 263)) 13 s (a + 1)) 64 = vI A 64 := fI
      have xG : ∀ r, r < 16 → ¬ vN (sN (sL G 4 s (fn_taken (vI A 64) P 263)) 13 s (a + 1)) 16 0 = r + 1 := fG
      have xs : vN (sN (sL G 4 s (fn_taken (vI A 64) P 263)) 13 s (a + 1)) 2 0 = s + 1 := hsess
      have xa : vN (sN (sL G 4 s (fn_taken (vI A 64) P 263)) 13 s (a + 1)) 13 s = a + 1 := by rw [vN_sN, if_pos ⟨rfl, rfl⟩]
      generalize sN (sL G 4 s (fn_taken (vI A 64) P 263)) 13 s (a + 1) = X at *
      refine wp_cv (mc_of (d := d + 1) (p := p) (s := s) hM xP (by rw [xI]; exact hr) hw h415 (fun k => by rw [xI]; exact hIB k) hs16 z2 z3 rfl rfl fun σ hM => ⟨rfl, ?_⟩)
      have yI : vI (sI (fn_note X P p s) 21 s (Int32.ofNat (vN X 5 0 + 600))) 64 = vI X 64 := rfl
      refine wp_cv (mc_grantN (d := d) (s := s) hM (P := P) xP (by rw [yI, xI]; exact hr) hw (by rw [yI, xI]; exact hR) xG (by show s < vN X 2 0; omega) (by show vN X 2 0 ≤ 16; omega) (by show 1 ≤ vN X 13 s ∧ vN X 13 s ≤ 16; omega) (by rw [vI_sI, if_pos ⟨rfl, rfl⟩]; rfl) rfl fun σ hM => ⟨rfl, wp_ret (k σ ?_)⟩)
      rw [grant_SEND, ← grant_SG _ _ _ 0, ← note_SG, hnote, grant_SEND] at hM
      exact hM
