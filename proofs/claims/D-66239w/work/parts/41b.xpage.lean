/-! PART 41 (src 41.xpage.src): the component's page: what goes is made -/
set_option maxHeartbeats 100000
/-- a call whose row gives its state, then what follows -/
theorem cvX {T : z_St} {B : w_A} {o : Option z_R} {f : z_St → Option z_R} {Q : z_St → Option z_V → Prop} (h : ∀ Q', (∀ σ, w_X T σ B → Q' σ none) → wp o Q') (k : ∀ σ, w_X T σ B → wp (f σ) Q) : wp (cv o f) Q := wp_cv (h _ fun σ hX => ⟨rfl, k σ hX⟩)
theorem xc_attr {T σ : z_St} {A : w_A} {l : List Int32} (hX : w_X T σ (fn_page A l)) {d : Nat} {c : Int32} (n : Nat) {x : Int32} (hx : x = Int32.ofNat n) (hl : l.length + 8 ≤ 700) {Q : z_St → Option z_V → Prop} (k : ∀ σ, w_X T σ (fn_page A (l ++ fn_attr c n)) → Q σ none) : wp (zD (d + 2) 221 [.inr (.inr (some (2, 0))), .inl c, .inl x] σ) Q := by
  subst hx
  refine wp_eq (c221 ..) (wp_eq (e221_0 ..) ?_)
  refine cvX (fun Q' k => xc_put hX 4 rfl (by omega) (by omega) k) fun σ hX => ?_
  refine cvX (fun Q' k => xc_put hX 1 rfl (by rw [List.length_append, bJ_len]; omega) (by omega) k) fun σ hX => ?_
  refine cvX (fun Q' k => xc_put hX 3 rfl (by rw [List.length_append, List.length_append, bJ_len, bJ_len]; omega) (by omega) k) fun σ hX => ?_
  refine wp_ret (k σ ?_)
  have e : (l ++ bJ (Int32.toInt64 c) 4 ++ bJ (Int32.toInt64 64) 1 ++ bJ (Int32.toInt64 (8 + Int32.ofNat n)) 3) = l ++ fn_attr c n := by
    rw [bJ_4, bJ_1, bJ_3, Int32.toInt32_toInt64, Int32.toInt32_toInt64, Int32.toInt32_toInt64, io_ladd]
    simp only [List.append_assoc]
    rfl
  rw [← e]
  exact hX
theorem xl_pad {T : z_St} {A : w_A} {d : Nat} {Q : z_St → Option z_V → Prop} : ∀ (n : Nat) (σ : z_St) (l : List Int32), w_X T σ (fn_page A l) → (4 - l.length % 4) % 4 = n → l.length + n ≤ 700 → (∀ σ, w_X T σ (fn_page A (l ++ List.replicate n 0)) → Q σ none) →
    wp (E xP222 (zD d) 0 [some (.inr (.inr (some (2, 0))))] [] σ) Q
  | 0, σ, l, hX, hn, hl, k => by
    refine wp_eq (e222_0 ..) ?_
    simp (disch := omega) only [fx hX, rx_PG hX, ev_rd, ev_io, ev_ev, ev_st, aEl, z_w, z_cat, Nat.reduceMod, Nat.reduceDiv, Nat.reduceLeDiff, Nat.reduceLT, Nat.reduceAdd, Nat.reduceMul, Nat.reduceSub, Nat.reduceEqDiff, Int32.reduceLT, Int32.reduceLE, Int32.reduceAdd, Int32.reduceSub, Int32.reduceMul, true_and, and_true, false_and, and_false, true_or, or_true, false_or, or_false, not_true_eq_false, not_false_eq_true, if_true, if_false, reduceIte, ne_eq, and_self, or_self, reduceCtorEq, Option.some.injEq, Prod.mk.injEq]
    rw [if_pos (by omega)]
    refine wp_eq (e222_2 ..) (wp_ret (k _ ?_))
    rw [List.replicate_zero, List.append_nil]
    exact hX
  | n + 1, σ, l, hX, hn, hl, k => by
    refine wp_eq (e222_0 ..) ?_
    simp (disch := omega) only [fx hX, rx_PG hX, ev_rd, ev_io, ev_ev, ev_st, aEl, z_w, z_cat, Nat.reduceMod, Nat.reduceDiv, Nat.reduceLeDiff, Nat.reduceLT, Nat.reduceAdd, Nat.reduceMul, Nat.reduceSub, Nat.reduceEqDiff, Int32.reduceLT, Int32.reduceLE, Int32.reduceAdd, Int32.reduceSub, Int32.reduceMul, true_and, and_true, false_and, and_false, true_or, or_true, false_or, or_false, not_true_eq_false, not_false_eq_true, if_true, if_false, reduceIte, ne_eq, and_self, or_self, reduceCtorEq, Option.some.injEq, Prod.mk.injEq]
    rw [if_neg (by omega)]
    refine wp_eq (e222_1 ..) ?_
    simp (disch := omega) only [fx hX, rx_PG hX, ev_rd, ev_io, ev_ev, ev_st, aEl, z_w, z_cat, Nat.reduceMod, Nat.reduceDiv, Nat.reduceLeDiff, Nat.reduceLT, Nat.reduceAdd, Nat.reduceMul, Nat.reduceSub, Nat.reduceEqDiff, Int32.reduceLT, Int32.reduceLE, Int32.reduceAdd, Int32.reduceSub, Int32.reduceMul, true_and, and_true, false_and, and_false, true_or, or_true, false_or, or_false, not_true_eq_false, not_false_eq_true, if_true, if_false, reduceIte, ne_eq, and_self, or_self, reduceCtorEq, Option.some.injEq, Prod.mk.injEq, sw]
    refine xl_pad n _ (l ++ [0]) (x_PG1 hX 0) (by rw [List.length_append]; show (4 - (l.length + 1) % 4) % 4 = n; omega) (by rw [List.length_append]; show l.length + 1 + n ≤ 700; omega) ?_
    rw [List.append_assoc]
    exact k
theorem xc_pad {T σ : z_St} {A : w_A} {l : List Int32} (hX : w_X T σ (fn_page A l)) {d : Nat} (hl : l.length + 3 ≤ 700) {Q : z_St → Option z_V → Prop} (k : ∀ σ, w_X T σ (fn_page A (l ++ fn_pad l.length)) → Q σ none) : wp (zD (d + 1) 222 [.inr (.inr (some (2, 0)))] σ) Q :=
  wp_eq (c222 ..) (xl_pad _ σ l hX rfl (by omega) k)
theorem xc_num {T σ : z_St} {A : w_A} {l : List Int32} (hX : w_X T σ (fn_page A l)) {d : Nat} {c : Int32} {v : Int64} (hl : l.length + 12 ≤ 700) {Q : z_St → Option z_V → Prop} (k : ∀ σ, w_X T σ (fn_page A (l ++ fn_num c v.toInt32)) → Q σ none) : wp (zD (d + 3) 223 [.inr (.inr (some (2, 0))), .inl c, .inr (.inl v)] σ) Q := by
  refine wp_eq (c223 ..) (wp_eq (e223_0 ..) ?_)
  refine cvX (fun Q' k => xc_attr hX 4 rfl (by omega) k) fun σ hX => ?_
  refine cvX (fun Q' k => xc_put hX 4 rfl (by rw [List.length_append, fn_attr_len]; omega) (by omega) k) fun σ hX => ?_
  refine wp_ret (k σ ?_)
  rw [bJ_4, List.append_assoc] at hX
  exact hX
