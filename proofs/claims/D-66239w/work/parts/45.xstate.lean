/-! PART 45 (src 45.xstate.src): the component's peers: what is sent to them -/
theorem xc_isUp {T σ : z_St} {A : w_A} (hX : w_X T σ A) {d p : Nat} {Q : z_St → Option z_V → Prop} (k : ∀ σ v, w_X T σ A → v = some (.inl (b2i (fn_up A p))) → Q σ v) : wp (zD (d + 1) 230 [.inr (.inr (some (9, p)))] σ) Q := by
  repeat' ((first
    | (with_reducible refine wp_eq (c230 ..) ?_)
    | (with_reducible refine wp_eq (e230_0 ..) ?_)
    | (with_reducible refine wp_eq (e230_1 ..) ?_)
    | (with_reducible refine wp_eq (e230_2 ..) ?_)
    | (with_reducible refine wp_eq (e230_3 ..) ?_)
    | (with_reducible refine wp_eq (e230_4 ..) ?_)
    | (refine wp_if (fun hc => ?_) (fun hc => ?_))
    | (with_reducible refine wp_gd ?_ ?_; · first | assumption | omega | decide))
    <;> (try simp (disch := omega) only [fx hX, ev_rd, ev_io, ev_ev, ev_st, aEl, z_w, z_cat, Nat.reduceMod, Nat.reduceDiv, Nat.reduceLeDiff, Nat.reduceLT, Nat.reduceAdd, Nat.reduceMul, Nat.reduceSub, Nat.reduceEqDiff, Int32.reduceLT, Int32.reduceLE, Int32.reduceAdd, Int32.reduceSub, Int32.reduceMul, true_and, and_true, false_and, and_false, true_or, or_true, false_or, or_false, not_true_eq_false, not_false_eq_true, if_true, if_false, reduceIte, ne_eq, and_self, or_self, reduceCtorEq, Option.some.injEq, Prod.mk.injEq, *]))
  all_goals refine wp_ret (k _ _ hX ?_)
  all_goals simp [b2i, fn_up, *]
theorem xc_isUsable {T σ : z_St} {A : w_A} (hX : w_X T σ A) {d p : Nat} {Q : z_St → Option z_V → Prop} (k : ∀ σ v, w_X T σ A → v = some (.inl (b2i (fn_us A p))) → Q σ v) : wp (zD (d + 2) 231 [.inr (.inr (some (9, p)))] σ) Q := by
  repeat' ((first
    | (with_reducible refine wp_eq (c231 ..) ?_)
    | (with_reducible refine wp_eq (e231_0 ..) ?_)
    | (with_reducible refine wp_eq (e231_1 ..) ?_)
    | (with_reducible refine wp_eq (e231_2 ..) ?_)
    | (with_reducible refine wp_eq (e231_3 ..) ?_)
    | (with_reducible refine wp_eq (e231_4 ..) ?_)
    | (with_reducible refine wp_cr (xc_isUp hX (fun σ v hX hv => ⟨_, hv, ?_⟩)))
    | (refine wp_if (fun hc => ?_) (fun hc => ?_))
    | (with_reducible refine wp_gd ?_ ?_; · first | assumption | omega | decide))
    <;> (try simp (disch := omega) only [fx hX, ev_rd, ev_io, ev_ev, ev_st, aEl, z_w, z_cat, Nat.reduceMod, Nat.reduceDiv, Nat.reduceLeDiff, Nat.reduceLT, Nat.reduceAdd, Nat.reduceMul, Nat.reduceSub, Nat.reduceEqDiff, Int32.reduceLT, Int32.reduceLE, Int32.reduceAdd, Int32.reduceSub, Int32.reduceMul, true_and, and_true, false_and, and_false, true_or, or_true, false_or, or_false, not_true_eq_false, not_false_eq_true, if_true, if_false, reduceIte, ne_eq, and_self, or_self, reduceCtorEq, Option.some.injEq, Prod.mk.injEq, *]))
  all_goals refine wp_ret (k _ _ hX ?_)
  all_goals simp_all [b2i, fn_us, fn_up]
theorem xc_isOpen {T σ : z_St} {A : w_A} (hX : w_X T σ A) {d c : Nat} {Q : z_St → Option z_V → Prop} (k : ∀ σ v, w_X T σ A → v = some (.inl (b2i (vI A 12 c = 2))) → Q σ v) : wp (zD (d + 1) 191 [.inr (.inr (some (4, c)))] σ) Q := by
  repeat' ((first
    | (with_reducible refine wp_eq (c191 ..) ?_)
    | (with_reducible refine wp_eq (e191_0 ..) ?_)
    | (with_reducible refine wp_eq (e191_1 ..) ?_)
    | (with_reducible refine wp_eq (e191_2 ..) ?_)
    | (with_reducible refine wp_eq (e191_3 ..) ?_)
    | (refine wp_if (fun hc => ?_) (fun hc => ?_))
    | (with_reducible refine wp_gd ?_ ?_; · first | assumption | omega | decide))
    <;> (try simp (disch := omega) only [fx hX, ev_rd, ev_io, ev_ev, ev_st, aEl, z_w, z_cat, Nat.reduceMod, Nat.reduceDiv, Nat.reduceLeDiff, Nat.reduceLT, Nat.reduceAdd, Nat.reduceMul, Nat.reduceSub, Nat.reduceEqDiff, Int32.reduceLT, Int32.reduceLE, Int32.reduceAdd, Int32.reduceSub, Int32.reduceMul, true_and, and_true, false_and, and_false, true_or, or_true, false_or, or_false, not_true_eq_false, not_false_eq_true, if_true, if_false, reduceIte, ne_eq, and_self, or_self, reduceCtorEq, Option.some.injEq, Prod.mk.injEq, *]))
  all_goals refine wp_ret (k _ _ hX ?_)
  all_goals simp [b2i, *]
theorem xc_isGivenTime {T σ : z_St} {A : w_A} (hX : w_X T σ A) {d p : Nat} {Q : z_St → Option z_V → Prop} (k : ∀ σ v, w_X T σ A → v = some (.inl (b2i (fn_given A p))) → Q σ v) : wp (zD (d + 2) 233 [.inr (.inr (some (9, p)))] σ) Q := by
  repeat' ((first
    | (with_reducible refine wp_eq (c233 ..) ?_)
    | (with_reducible refine wp_eq (e233_0 ..) ?_)
    | (with_reducible refine wp_eq (e233_1 ..) ?_)
    | (with_reducible refine wp_eq (e233_2 ..) ?_)
    | (with_reducible refine wp_eq (e233_3 ..) ?_)
    | (with_reducible refine wp_eq (e233_4 ..) ?_)
    | (with_reducible refine wp_cr (xc_isUp hX (fun σ v hX hv => ⟨_, hv, ?_⟩)))
    | (refine wp_if (fun hc => ?_) (fun hc => ?_))
    | (with_reducible refine wp_gd ?_ ?_; · first | assumption | omega | decide))
    <;> (try simp (disch := omega) only [fx hX, ev_rd, ev_io, ev_ev, ev_st, aEl, z_w, z_cat, Nat.reduceMod, Nat.reduceDiv, Nat.reduceLeDiff, Nat.reduceLT, Nat.reduceAdd, Nat.reduceMul, Nat.reduceSub, Nat.reduceEqDiff, Int32.reduceLT, Int32.reduceLE, Int32.reduceAdd, Int32.reduceSub, Int32.reduceMul, true_and, and_true, false_and, and_false, true_or, or_true, false_or, or_false, not_true_eq_false, not_false_eq_true, if_true, if_false, reduceIte, ne_eq, and_self, or_self, reduceCtorEq, Option.some.injEq, Prod.mk.injEq, *]))
  all_goals refine wp_ret (k _ _ hX ?_)
  all_goals simp_all [b2i, fn_given, fn_up]
/-- the connection of a peer that is up -/
theorem xc_link {T σ : z_St} {A : w_A} (hX : w_X T σ A) {d p c : Nat} (hu : fn_up A p) (h5 : vI A 0 p = 5 → ¬ vN A 10 p = 0) (hc : fn_conn A p = c) (hz : ¬ c = 0) {Q : z_St → Option z_V → Prop} (k : ∀ σ v, w_X T σ A → v = some (.inr (.inr (some (4, c)))) → Q σ v) : wp (zD (d + 1) 232 [.inr (.inr (some (9, p)))] σ) Q := by
  have e : ¬ vI A 0 p = 7 := by rcases hu with h | h <;> rw [h] <;> decide
  subst hc
  rw [← z_one_s hz] at k
  repeat' ((first
    | (with_reducible refine wp_eq (c232 ..) ?_)
    | (with_reducible refine wp_eq (e232_0 ..) ?_)
    | (with_reducible refine wp_eq (e232_1 ..) ?_)
    | (with_reducible refine wp_eq (e232_2 ..) ?_)
    | (with_reducible refine wp_eq (e232_3 ..) ?_)
    | (with_reducible refine wp_eq (e232_4 ..) ?_)
    | (with_reducible refine wp_eq (e232_5 ..) ?_)
    | (refine wp_if (fun hc => ?_) (fun hc => ?_))
    | (with_reducible refine wp_gd ?_ ?_; · first | assumption | omega | decide))
    <;> (try simp (disch := omega) only [fx hX, ev_rd, ev_io, ev_ev, ev_st, aEl, z_w, z_cat, Nat.reduceMod, Nat.reduceDiv, Nat.reduceLeDiff, Nat.reduceLT, Nat.reduceAdd, Nat.reduceMul, Nat.reduceSub, Nat.reduceEqDiff, Int32.reduceLT, Int32.reduceLE, Int32.reduceAdd, Int32.reduceSub, Int32.reduceMul, true_and, and_true, false_and, and_false, true_or, or_true, false_or, or_false, not_true_eq_false, not_false_eq_true, if_true, if_false, reduceIte, ne_eq, and_self, or_self, reduceCtorEq, Option.some.injEq, Prod.mk.injEq, *]))
  all_goals refine wp_ret (k _ _ hX ?_)
  all_goals unfold fn_conn
  all_goals rcases hu with h | h <;> simp_all
theorem xc_request {T σ : z_St} {A : w_A} (hX : w_X T σ A) {d : Nat} {fl cmd app e : Int32} {Q : z_St → Option z_V → Prop} (k : ∀ σ, w_X T σ (fn_page (fn_hop A) (fn_hd (128 ||| fl) cmd app (fn_nh A) (if e = 0 then fn_nh A else e))) → Q σ none) : wp (zD (d + 3) 10 [.inr (.inr (some (0, 0))), .inl fl, .inl cmd, .inl app, .inl e] σ) Q := by
  repeat' ((first
    | (with_reducible refine wp_eq (c10 ..) ?_)
    | (with_reducible refine wp_eq (e10_0 ..) ?_)
    | (with_reducible refine wp_eq (e10_1 ..) ?_)
    | (with_reducible refine wp_eq (e10_2 ..) ?_)
    | (with_reducible refine wp_eq (e10_3 ..) ?_)
    | (with_reducible refine wp_cv (xc_begin hX (fun σ hX => ⟨rfl, ?_⟩)))
    | (with_reducible refine wp_swX (wx_HOPS hX _) (fun σ hX => ?_))
    | (refine wp_if (fun hc => ?_) (fun hc => ?_))
    | (with_reducible refine wp_gd ?_ ?_; · first | assumption | omega | decide))
    <;> (try simp (disch := omega) only [fx hX, ev_rd, ev_io, ev_ev, ev_st, aEl, z_w, z_cat, Nat.reduceMod, Nat.reduceDiv, Nat.reduceLeDiff, Nat.reduceLT, Nat.reduceAdd, Nat.reduceMul, Nat.reduceSub, Nat.reduceEqDiff, Int32.reduceLT, Int32.reduceLE, Int32.reduceAdd, Int32.reduceSub, Int32.reduceMul, true_and, and_true, false_and, and_false, true_or, or_true, false_or, or_false, not_true_eq_false, not_false_eq_true, if_true, if_false, reduceIte, ne_eq, and_self, or_self, reduceCtorEq, Option.some.injEq, Prod.mk.injEq, *]))
  all_goals refine wp_ret (k _ (X_cv hX ?_))
  all_goals simp only [fn_nh, fn_hop, if_pos, if_neg, *, not_false_eq_true]
