/-! PART 58 (src 58.mdrop.src): the twin's connections gone, all of a peer's, a fresh one -/
set_option maxHeartbeats 400000
/-- how a peer hangs on its connections -/
def z_Sp (A : w_A) (p : Nat) : Prop := (¬ vN A 9 p = 0 → vN A 11 (vN A 9 p) = p + 1 ∧ vI A 13 (vN A 9 p) = 1) ∧ (¬ vN A 10 p = 0 → vN A 11 (vN A 10 p) = p + 1 ∧ vI A 13 (vN A 10 p) = 2)
/-- how a connection hangs on its peer -/
def z_Sc (A : w_A) (c : Nat) : Prop := ∀ p, vN A 11 c = p + 1 → p < 4 ∧ ((vI A 13 c = 1 ∧ vN A 9 p = c) ∨ (vI A 13 c = 2 ∧ vN A 10 p = c))
  ∧ (vI A 0 p = 3 ∨ vI A 0 p = 4 → ¬ vN A 9 p = 0 ∧ ¬ vN A 10 p = 0)
  ∧ (vI A 0 p = 1 ∨ vI A 0 p = 2 ∨ vI A 0 p = 5 ∨ vI A 0 p = 6 ∨ vI A 0 p = 7 → vN A 9 p = 0 ∨ vN A 10 p = 0)
  ∧ (vI A 0 p = 1 ∨ vI A 0 p = 2 ∨ vI A 0 p = 3 ∨ vI A 0 p = 4 ∨ vI A 0 p = 5 ∨ vI A 0 p = 6 ∨ vI A 0 p = 7)
theorem shut_eq {A : w_A} {p : Nat} (h1 : vN A 9 p = 0) (h2 : vN A 10 p = 0) : fn_shut A p = fn_enter A p 0 := by
  unfold fn_shut fn_closeOwn
  rw [if_pos h1]
  unfold fn_closeCame
  rw [if_pos h2]
theorem closeOwn_0 (A : w_A) (p : Nat) : vN (fn_closeOwn A p) 9 p = 0 := by
  unfold fn_closeOwn
  split
  · assumption
  · rw [vN_sN, if_pos ⟨rfl, rfl⟩]
theorem closeCame_0 (A : w_A) (p : Nat) : vN (fn_closeCame A p) 10 p = 0 := by
  unfold fn_closeCame
  split
  · assumption
  · rw [vN_sN, if_pos ⟨rfl, rfl⟩]
theorem mc_drop {T σ : z_St} {A : w_A} (hM : w_M T σ A) {d c n : Nat} (hc0 : ¬ c = 0) (hc : c ≤ 8) (hI : z_I n A) (hS : z_Sc A c) (hn : n + 64 < 2147483648) {Q : z_St → Option z_V → Prop} (k : ∀ σ, w_M T σ (fn_end A c) → Q σ none) : wp (zD (d + 9) 129 [.inr (.inr (some (8, 0))), .inl (Int32.ofNat c)] σ) Q := by
  have hc31 : c < 2147483648 := by omega
  refine wp_eq (c129 ..) (wp_eq (e129_0 ..) (wp_ar (rm_p27 hM) aty_29360432 alen_29360432 rfl (by omega) (by decide) (wp_ar (rm_p28 hM) aty_30409008 alen_30409008 rfl (by omega) (by decide) ?_)))
  simp only [io_nat hc31]
  rw [rm_CPEER hM, rm_CROLE hM]
  cases hp : vN A 11 c with
  | zero =>
    refine wp_cv (mc_shut0 hM (by omega) hp fun σ hM => ⟨rfl, ?_⟩)
    rw [if_neg (by decide)]
    refine wp_eq (e129_1 ..) (wp_ret (k _ (M_cv hM ?_)))
    unfold fn_end
    rw [if_pos hp]
  | succ p =>
    obtain ⟨hp4, hr, hs34, hs1, hs⟩ := hS p hp
    have hp31 : p < 2147483648 := by omega
    have e : Int32.ofNat (p + 1) - 1 = Int32.ofNat p := by rw [show (1 : Int32) = Int32.ofNat 1 from rfl, io_sub (by omega)]; rfl
    have epos : (0 : Int32) ≤ Int32.ofNat p := by rw [io_lle (by omega) (by decide)]; omega
    rw [e]
    have h0 : ¬ vN A 11 c = 0 := by omega
    have hpp : vN A 11 c - 1 = p := by omega
    rcases hr with ⟨hr, ho⟩ | ⟨hr, ho⟩
    · have ef : fn_end A c = (if vI A 0 p = 3 then fn_opened (fn_closeOwn A p) p else if vI A 0 p = 4 then fn_opened (fn_closeOwn A p) p else fn_shut (fn_closeOwn A p) p) := by
        unfold fn_end
        rw [if_neg h0]
        dsimp only
        rw [hpp, if_pos hr, if_pos hr, if_pos hr]
      rw [ef] at k
      have hst : vI (fn_closeOwn A p) 0 p = vI A 0 p := closeOwn_I A p (by decide) (by decide) p
      have hcm : vN (fn_closeOwn A p) 10 p = vN A 10 p := closeOwn_N A p (by decide) (by decide) (by decide) p
      have hB := Ip_closeOwn (I_p hI p)
      refine wp_cv (mc_shutOwn hM hp4 (by omega) hc0 ho hp hr fun σ hM => ⟨rfl, ?_⟩)
      rw [if_pos epos, hr]
      refine wp_eq (e129_2 ..) (wp_ar (rm_p11 hM) aty_12583056 alen_12583056 rfl (by omega) (by decide) ?_)
      simp only [io_nat hp31]
      rw [rm_ST hM, hst]
      have opn_ : ¬ vN A 10 p = 0 → (∀ σ, w_M T σ (fn_opened (fn_closeOwn A p) p) → Q σ none) → wp (cv (zD (d + 8) 127 [.inr (.inr (some (8, 0))), .inl (Int32.ofNat p)] σ) fun σ1 => E xP129 (zD (d + 8)) 10 [none, none, none, none] [] σ1) Q := fun hz k =>
        wp_cv (mc_accepts hM hp4 hB (by rw [hcm]; exact hz) hn fun σ hM => ⟨rfl, wp_eq (e129_10 ..) (wp_ret (k _ hM))⟩)
      have shut_ : (vI A 0 p = 1 ∨ vI A 0 p = 2 ∨ vI A 0 p = 5 ∨ vI A 0 p = 6 ∨ vI A 0 p = 7) → wp (E xP129 (zD (d + 8)) 3 [some (.inr (.inr (some (8, 0)))), none, some (.inl (Int32.ofNat p)), none] [] σ) Q := by
        intro h
        have hz : vN A 10 p = 0 := (hs1 h).elim (fun g => by omega) id
        refine wp_eq (e129_3 ..) (wp_cv (mc_become hM hp4 hB (fun h => absurd h (by decide)) (fun h => absurd h (by decide)) hn fun σ hM => ⟨rfl, wp_eq (e129_10 ..) (wp_ret (k _ (M_cv hM ?_)))⟩))
        rw [if_neg (by rcases h with h | h | h | h | h <;> rw [h] <;> decide), if_neg (by rcases h with h | h | h | h | h <;> rw [h] <;> decide), shut_eq (closeOwn_0 A p) (by rw [hcm]; exact hz)]
      rcases hs with h | h | h | h | h | h | h
      · rw [if_pos h]; exact shut_ (by simp [h])
      · rw [if_neg (by rw [h]; decide), if_pos h]; exact shut_ (by simp [h])
      · rw [if_neg (by rw [h]; decide), if_neg (by rw [h]; decide), if_pos h]
        rw [if_pos h] at k
        refine wp_eq (e129_4 ..) ?_
        rw [if_pos rfl]
        exact wp_eq (e129_5 ..) (opn_ (hs34 (.inl h)).2 k)
      · rw [if_neg (by rw [h]; decide), if_neg (by rw [h]; decide), if_neg (by rw [h]; decide), if_pos h]
        rw [if_neg (by rw [h]; decide), if_pos h] at k
        refine wp_eq (e129_7 ..) ?_
        rw [if_pos rfl]
        exact wp_eq (e129_8 ..) (opn_ (hs34 (.inr h)).2 k)
      · rw [if_neg (by rw [h]; decide), if_neg (by rw [h]; decide), if_neg (by rw [h]; decide), if_neg (by rw [h]; decide), if_pos h]; exact shut_ (by simp [h])
      · rw [if_neg (by rw [h]; decide), if_neg (by rw [h]; decide), if_neg (by rw [h]; decide), if_neg (by rw [h]; decide), if_neg (by rw [h]; decide), if_pos h]; exact shut_ (by simp [h])
      · rw [if_neg (by rw [h]; decide), if_neg (by rw [h]; decide), if_neg (by rw [h]; decide), if_neg (by rw [h]; decide), if_neg (by rw [h]; decide), if_neg (by rw [h]; decide), if_pos h]; exact shut_ (by simp [h])
    · have hr1 : ¬ vI A 13 c = 1 := by rw [hr]; decide
      have ef : fn_end A c = (if vI A 0 p = 3 then fn_enter (fn_closeCame A p) p 1 else if vI A 0 p = 4 then fn_enter (fn_closeCame A p) p 2 else fn_shut (fn_closeCame A p) p) := by
        unfold fn_end
        rw [if_neg h0]
        dsimp only
        rw [hpp, if_neg hr1, if_neg hr1, if_neg hr1]
      rw [ef] at k
      have hst : vI (fn_closeCame A p) 0 p = vI A 0 p := closeCame_I A p (by decide) (by decide) p
      have hcm : vN (fn_closeCame A p) 9 p = vN A 9 p := closeCame_N A p (by decide) (by decide) (by decide) p
      have hB := Ip_closeCame (I_p hI p)
      refine wp_cv (mc_shutCame hM hp4 (by omega) hc0 ho hp hr fun σ hM => ⟨rfl, ?_⟩)
      rw [if_pos epos, hr]
      refine wp_eq (e129_2 ..) (wp_ar (rm_p11 hM) aty_12583056 alen_12583056 rfl (by omega) (by decide) ?_)
      simp only [io_nat hp31]
      rw [rm_ST hM, hst]
      have shut_ : (vI A 0 p = 1 ∨ vI A 0 p = 2 ∨ vI A 0 p = 5 ∨ vI A 0 p = 6 ∨ vI A 0 p = 7) → wp (E xP129 (zD (d + 8)) 3 [some (.inr (.inr (some (8, 0)))), none, some (.inl (Int32.ofNat p)), none] [] σ) Q := by
        intro h
        have hz : vN A 9 p = 0 := (hs1 h).elim id (fun g => by omega)
        refine wp_eq (e129_3 ..) (wp_cv (mc_become hM hp4 hB (fun h => absurd h (by decide)) (fun h => absurd h (by decide)) hn fun σ hM => ⟨rfl, wp_eq (e129_10 ..) (wp_ret (k _ (M_cv hM ?_)))⟩))
        rw [if_neg (by rcases h with h | h | h | h | h <;> rw [h] <;> decide), if_neg (by rcases h with h | h | h | h | h <;> rw [h] <;> decide), shut_eq (by rw [hcm]; exact hz) (closeCame_0 A p)]
      rcases hs with h | h | h | h | h | h | h
      · rw [if_pos h]; exact shut_ (by simp [h])
      · rw [if_neg (by rw [h]; decide), if_pos h]; exact shut_ (by simp [h])
      · rw [if_neg (by rw [h]; decide), if_neg (by rw [h]; decide), if_pos h]
        rw [if_pos h] at k
        refine wp_eq (e129_4 ..) ?_
        rw [if_neg (by decide)]
        exact wp_eq (e129_6 ..) (wp_cv (mc_become hM hp4 hB (fun h => absurd h (by decide)) (fun h => absurd h (by decide)) hn fun σ hM => ⟨rfl, wp_eq (e129_10 ..) (wp_ret (k _ hM))⟩))
      · rw [if_neg (by rw [h]; decide), if_neg (by rw [h]; decide), if_neg (by rw [h]; decide), if_pos h]
        rw [if_neg (by rw [h]; decide), if_pos h] at k
        refine wp_eq (e129_7 ..) ?_
        rw [if_neg (by decide)]
        exact wp_eq (e129_9 ..) (wp_cv (mc_become hM hp4 hB (fun h => absurd h (by decide)) (fun h => absurd h (by decide)) hn fun σ hM => ⟨rfl, wp_eq (e129_10 ..) (wp_ret (k _ hM))⟩))
      · rw [if_neg (by rw [h]; decide), if_neg (by rw [h]; decide), if_neg (by rw [h]; decide), if_neg (by rw [h]; decide), if_pos h]; exact shut_ (by simp [h])
      · rw [if_neg (by rw [h]; decide), if_neg (by rw [h]; decide), if_neg (by rw [h]; decide), if_neg (by rw [h]; decide), if_neg (by rw [h]; decide), if_pos h]; exact shut_ (by simp [h])
      · rw [if_neg (by rw [h]; decide), if_neg (by rw [h]; decide), if_neg (by rw [h]; decide), if_neg (by rw [h]; decide), if_neg (by rw [h]; decide), if_neg (by rw [h]; decide), if_pos h]; exact shut_ (by simp [h])
/-- all connections of a peer closed -/
theorem mc_dropAll {T σ : z_St} {A : w_A} (hM : w_M T σ A) {d p n : Nat} (hp : p < 4) (hI : z_Ip n p A) (hS : z_Sp A p) (hn : n + 64 < 2147483648) {Q : z_St → Option z_V → Prop} (k : ∀ σ, w_M T σ (fn_shut A p) → Q σ none) : wp (zD (d + 8) 130 [.inr (.inr (some (8, 0))), .inl (Int32.ofNat p)] σ) Q := by
  have hp31 : p < 2147483648 := by omega
  obtain ⟨hO, hC⟩ := hI.1.2.2.1 p
  have hcm : vN (fn_closeOwn A p) 10 p = vN A 10 p := closeOwn_N A p (by decide) (by decide) (by decide) p
  have t2 : ∀ σ, w_M T σ (fn_closeOwn A p) → wp (E xP130 (zD (d + 7)) 2 [some (.inr (.inr (some (8, 0)))), some (.inl (Int32.ofNat p))] [] σ) Q := by
    intro σ hM
    have t4 : ∀ σ, w_M T σ (fn_closeCame (fn_closeOwn A p) p) → wp (E xP130 (zD (d + 7)) 4 [some (.inr (.inr (some (8, 0)))), some (.inl (Int32.ofNat p))] [] σ) Q := fun σ hM =>
      wp_eq (e130_4 ..) (wp_cv (mc_become hM hp (Ip_closeCame (Ip_closeOwn hI)) (fun h => absurd h (by decide)) (fun h => absurd h (by decide)) hn fun σ hM => ⟨rfl, wp_ret (k _ hM)⟩))
    refine wp_eq (e130_2 ..) (wp_ar (rm_p14 hM) aty_15728784 alen_15728784 rfl (by omega) (by decide) ?_)
    refine wp_if (fun hc => ?_) (fun hc => ?_) <;> (dsimp only at hc; rw [io_nat hp31, rm_CAME hM, hcm, io_le_l (by omega) (by decide)] at hc)
    · refine t4 σ (M_cv hM ?_)
      unfold fn_closeCame
      rw [if_pos (by rw [hcm]; omega)]
    · have hz : ¬ vN A 10 p = 0 := by omega
      obtain ⟨g1, g2⟩ := hS.2 hz
      refine wp_eq (e130_3 ..) (wp_ar (rm_p14 hM) aty_15728784 alen_15728784 rfl (by omega) (by decide) ?_)
      simp only [io_nat hp31]
      rw [rm_CAME hM, hcm]
      refine wp_cv (mc_shutCame hM hp (by omega) hz hcm ?_ ?_ fun σ hM => ⟨rfl, t4 σ hM⟩)
      · unfold fn_closeOwn
        split
        · exact g1
        · rename_i ho
          obtain ⟨g3, g4⟩ := hS.1 ho
          have hne : ¬ vN A 10 p = vN A 9 p := fun e => by rw [e, g4] at g2; exact absurd g2 (by decide)
          unfold fn_close
          simp only [ev_rd, ev_st, aEl, z_w, z_cat, Nat.reduceMod, Nat.reduceDiv, Nat.reduceLeDiff, Nat.reduceLT, Nat.reduceAdd, Nat.reduceMul, Nat.reduceSub, Nat.reduceEqDiff, Int32.reduceLT, Int32.reduceLE, Int32.reduceAdd, Int32.reduceSub, Int32.reduceMul, true_and, and_true, false_and, and_false, true_or, or_true, false_or, or_false, not_true_eq_false, not_false_eq_true, if_true, if_false, reduceIte, ne_eq, and_self, or_self, reduceCtorEq, Option.some.injEq, Prod.mk.injEq, hne]
          exact g1
      · unfold fn_closeOwn
        split
        · exact g2
        · rename_i ho
          obtain ⟨g3, g4⟩ := hS.1 ho
          have hne : ¬ vN A 10 p = vN A 9 p := fun e => by rw [e, g4] at g2; exact absurd g2 (by decide)
          unfold fn_close
          simp only [ev_rd, ev_st, aEl, z_w, z_cat, Nat.reduceMod, Nat.reduceDiv, Nat.reduceLeDiff, Nat.reduceLT, Nat.reduceAdd, Nat.reduceMul, Nat.reduceSub, Nat.reduceEqDiff, Int32.reduceLT, Int32.reduceLE, Int32.reduceAdd, Int32.reduceSub, Int32.reduceMul, true_and, and_true, false_and, and_false, true_or, or_true, false_or, or_false, not_true_eq_false, not_false_eq_true, if_true, if_false, reduceIte, ne_eq, and_self, or_self, reduceCtorEq, Option.some.injEq, Prod.mk.injEq, hne]
          exact g2
  refine wp_eq (c130 ..) (wp_eq (e130_0 ..) (wp_ar (rm_p13 hM) aty_14680208 alen_14680208 rfl (by omega) (by decide) ?_))
  refine wp_if (fun hc => ?_) (fun hc => ?_) <;> (dsimp only at hc; rw [io_nat hp31, rm_OWN hM, io_le_l (by omega) (by decide)] at hc)
  · refine t2 σ (M_cv hM ?_)
    unfold fn_closeOwn
    rw [if_pos (by omega)]
  · have hz : ¬ vN A 9 p = 0 := by omega
    obtain ⟨g1, g2⟩ := hS.1 hz
    refine wp_eq (e130_1 ..) (wp_ar (rm_p13 hM) aty_14680208 alen_14680208 rfl (by omega) (by decide) ?_)
    simp only [io_nat hp31]
    rw [rm_OWN hM]
    exact wp_cv (mc_shutOwn hM hp (by omega) hz rfl g1 g2 fun σ hM => ⟨rfl, t2 σ hM⟩)
