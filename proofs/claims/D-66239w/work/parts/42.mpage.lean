/-! PART 42 (src 42.mpage.src): the twin's octets that are made -/
theorem m_PG1 {T σ : z_St} {A : w_A} {l : List Int32} (h : w_M T σ (fn_page A l)) (b : Int32) : w_M T (wI (wI σ 63985553 0 l.length b) 8 66 0 (Int32.ofNat (l.length + 1))) (fn_page A (l ++ [b])) := by
  obtain ⟨hT, hA, hB, hC, hD, hG, hH, hI, hJ, hK, hL, hM, hN⟩ := h
  refine ⟨m_T_wI (m_T_wI hT (z_isM_yes _ rfl)) (z_isM_yes _ rfl), hA, hB, hC, hD, hG, hH, hI, hJ, hK, ?_, hM, hN⟩
  unfold m_L at hL ⊢
  simp only [fn_page_PG, gI_wI, ev_rd, ev_st, aEl, z_w, z_cat, Nat.reduceMod, Nat.reduceDiv, Nat.reduceLeDiff, Nat.reduceLT, Nat.reduceAdd, Nat.reduceMul, Nat.reduceSub, Nat.reduceEqDiff, Int32.reduceLT, Int32.reduceLE, Int32.reduceAdd, Int32.reduceSub, Int32.reduceMul, true_and, and_true, false_and, and_false, true_or, or_true, false_or, or_false, not_true_eq_false, not_false_eq_true, if_true, if_false, reduceIte, ne_eq, and_self, or_self, reduceCtorEq, Option.some.injEq, Prod.mk.injEq] at hL ⊢
  refine ⟨by rw [List.length_append]; rfl, fun k hk hne => ?_⟩
  by_cases e : k = l.length
  · subst e
    rw [if_pos rfl, List.getElem_append_right (Nat.le_refl _)]
    simp
  · rw [List.length_append] at hk
    have hk2 : k < l.length := by
      have : [b].length = 1 := rfl
      omega
    rw [if_neg e, hL.2 k hk2 hne, List.getElem_append_left hk2]
theorem m_PGe {T σ : z_St} {A : w_A} {l m : List Int32} (h : w_M T σ (fn_page A l)) (e : l.length = m.length) (g : ∀ k, (h1 : k < l.length) → (h2 : k < m.length) → ¬ (1 ≤ k ∧ k ≤ 3) → l[k] = m[k]) : w_M T σ (fn_page A m) := by
  obtain ⟨hT, hA, hB, hC, hD, hG, hH, hI, hJ, hK, hL, hM, hN⟩ := h
  refine ⟨hT, hA, hB, hC, hD, hG, hH, hI, hJ, hK, ?_, hM, hN⟩
  unfold m_L at hL ⊢
  rw [fn_page_PG] at hL ⊢
  refine ⟨by rw [← e]; exact hL.1, fun k hk hne => ?_⟩
  rw [hL.2 k (by omega) hne, g k (by omega) hk hne]
theorem m_PGs {T σ : z_St} {A : w_A} {l : List Int32} (h : w_M T σ (fn_page A l)) (k : Nat) (b : Int32) : w_M T (wI σ 63985553 0 k b) (fn_page A (l.set k b)) := by
  obtain ⟨hT, hA, hB, hC, hD, hG, hH, hI, hJ, hK, hL, hM, hN⟩ := h
  refine ⟨m_T_wI hT (z_isM_yes _ rfl), hA, hB, hC, hD, hG, hH, hI, hJ, hK, ?_, hM, hN⟩
  unfold m_L at hL ⊢
  simp only [fn_page_PG, gI_wI, ev_rd, ev_st, aEl, z_w, z_cat, Nat.reduceMod, Nat.reduceDiv, Nat.reduceLeDiff, Nat.reduceLT, Nat.reduceAdd, Nat.reduceMul, Nat.reduceSub, Nat.reduceEqDiff, Int32.reduceLT, Int32.reduceLE, Int32.reduceAdd, Int32.reduceSub, Int32.reduceMul, true_and, and_true, false_and, and_false, true_or, or_true, false_or, or_false, not_true_eq_false, not_false_eq_true, if_true, if_false, reduceIte, ne_eq, and_self, or_self, reduceCtorEq, Option.some.injEq, Prod.mk.injEq] at hL ⊢
  refine ⟨by rw [List.length_set]; exact hL.1, fun j hj hne => ?_⟩
  rw [List.length_set] at hj
  by_cases e : j = k
  · subst e
    rw [if_pos rfl, List.getElem_set_self]
  · rw [if_neg e, hL.2 j hj hne, List.getElem_set_ne (fun e2 => e e2.symm)]
theorem m_PG0 {T σ : z_St} {A : w_A} (h : w_M T σ A) : w_M T (wI σ 8 66 0 0) (fn_page A []) := by
  obtain ⟨hT, hA, hB, hC, hD, hG, hH, hI, hJ, hK, hL, hM, hN⟩ := h
  refine ⟨m_T_wI hT (z_isM_yes _ rfl), hA, hB, hC, hD, hG, hH, hI, hJ, hK, ?_, hM, hN⟩
  unfold m_L at hL ⊢
  refine ⟨rfl, fun k hk hne => ?_⟩
  cases hk
theorem rm_PG {T σ : z_St} {A : w_A} {l : List Int32} (h : w_M T σ (fn_page A l)) : gI σ 8 66 0 = Int32.ofNat l.length := h.2.2.2.2.2.2.2.2.2.2.1.1
def bI (x : Int32) : Nat → List Int32
  | 0 => []
  | m + 1 => by8 x (Int32.ofNat m) :: bI x m
theorem bI_len (v : Int32) : ∀ n, (bI v n).length = n
  | 0 => rfl
  | n + 1 => by rw [bI, List.length_cons, bI_len v n]
theorem by8_0 (x : Int32) : by8 x 0 = nb x := by
  unfold by8 nb
  rw [show (8 * 0 &&& 31 : Int32) = 0 from by decide, Int32.shiftRight_zero]
theorem ml_put {T : z_St} {A : w_A} {d : Nat} {v : Int32} {Q : z_St → Option z_V → Prop} : ∀ (n : Nat) (σ : z_St) (l : List Int32), w_M T σ (fn_page A l) → l.length + n ≤ 700 → n ≤ 4 → (∀ σ, w_M T σ (fn_page A (l ++ bI v n)) → Q σ none) →
    wp (E xP91 (zD d) 1 [some (.inr (.inr (some (8, 0)))), some (.inl v), none, some (.inl (Int32.ofNat n + (-1)))] [] σ) Q
  | 0, σ, l, hM, hl, hn, k => by
    refine wp_eq (e91_1 ..) ?_
    rw [if_pos (by decide)]
    refine wp_eq (e91_6 ..) (wp_ret (k _ ?_))
    rw [bI, List.append_nil]
    exact hM
  | n + 1, σ, l, hM, hl, hn, k => by
    refine wp_eq (e91_1 ..) ?_
    have e : Int32.ofNat (n + 1) + (-1) = Int32.ofNat n := io_pred (by omega)
    rw [e, if_neg (by rw [show (0 : Int32) = Int32.ofNat 0 from rfl, io_lt (by omega) (by omega)]; omega)]
    refine wp_eq (e91_2 ..) ?_
    rw [if_pos (by rw [show (3 : Int32) = Int32.ofNat 3 from rfl, io_le (by omega) (by omega)]; omega)]
    refine wp_eq (e91_4 ..) (wp_eq (e91_5 ..) ?_)
    simp (disch := omega) only [fm hM, rm_PG hM, gI_wI, io_nat, io_add_l, ev_ev, ev_st, aEl, z_w, z_cat, Nat.reduceMod, Nat.reduceDiv, Nat.reduceLeDiff, Nat.reduceLT, Nat.reduceAdd, Nat.reduceMul, Nat.reduceSub, Nat.reduceEqDiff, Int32.reduceLT, Int32.reduceLE, Int32.reduceAdd, Int32.reduceSub, Int32.reduceMul, true_and, and_true, false_and, and_false, true_or, or_true, false_or, or_false, not_true_eq_false, not_false_eq_true, if_true, if_false, reduceIte, ne_eq, and_self, or_self, reduceCtorEq, Option.some.injEq, Prod.mk.injEq, sw, Int8.toInt8_toInt32]
    refine ml_put n _ (l ++ [by8 v (Int32.ofNat n)]) (m_PG1 hM (by8 v (Int32.ofNat n))) (by rw [List.length_append]; show l.length + 1 + n ≤ 700; omega) (by omega) ?_
    rw [List.append_assoc]
    exact k
theorem mc_put {T σ : z_St} {A : w_A} {l : List Int32} (hM : w_M T σ (fn_page A l)) {d : Nat} {v : Int32} (n : Nat) {x : Int32} (hx : x = Int32.ofNat n) (hl : l.length + n ≤ 700) (hn : n ≤ 4) {Q : z_St → Option z_V → Prop} (k : ∀ σ, w_M T σ (fn_page A (l ++ bI v n)) → Q σ none) : wp (zD (d + 1) 91 [.inr (.inr (some (8, 0))), .inl v, .inl x] σ) Q := by
  subst hx
  refine wp_eq (c91 ..) (wp_eq (e91_0 ..) ?_)
  rw [show Int32.ofNat n - 1 = Int32.ofNat n + (-1) from Int32.sub_eq_add_neg _ _]
  exact ml_put n σ l hM hl hn k
theorem cvM {T : z_St} {B : w_A} {o : Option z_R} {f : z_St → Option z_R} {Q : z_St → Option z_V → Prop} (h : ∀ Q', (∀ σ, w_M T σ B → Q' σ none) → wp o Q') (k : ∀ σ, w_M T σ B → wp (f σ) Q) : wp (cv o f) Q := wp_cv (h _ fun σ hM => ⟨rfl, k σ hM⟩)
theorem mc_attr {T σ : z_St} {A : w_A} {l : List Int32} (hM : w_M T σ (fn_page A l)) {d : Nat} {c : Int32} (n : Nat) {x : Int32} (hx : x = Int32.ofNat n) (hl : l.length + 8 ≤ 700) {Q : z_St → Option z_V → Prop} (k : ∀ σ, w_M T σ (fn_page A (l ++ fn_attr c n)) → Q σ none) : wp (zD (d + 2) 93 [.inr (.inr (some (8, 0))), .inl c, .inl x] σ) Q := by
  subst hx
  refine wp_eq (c93 ..) (wp_eq (e93_0 ..) ?_)
  refine cvM (fun Q' k => mc_put hM 4 rfl (by omega) (by omega) k) fun σ hM => ?_
  refine cvM (fun Q' k => mc_put hM 1 rfl (by rw [List.length_append, bI_len]; omega) (by omega) k) fun σ hM => ?_
  refine cvM (fun Q' k => mc_put hM 3 rfl (by rw [List.length_append, List.length_append, bI_len, bI_len]; omega) (by omega) k) fun σ hM => ?_
  refine wp_ret (k σ ?_)
  rw [io_ladd] at hM
  simp only [List.append_assoc] at hM
  exact hM
theorem mc_num {T σ : z_St} {A : w_A} {l : List Int32} (hM : w_M T σ (fn_page A l)) {d : Nat} {c v : Int32} (hl : l.length + 12 ≤ 700) {Q : z_St → Option z_V → Prop} (k : ∀ σ, w_M T σ (fn_page A (l ++ fn_num c v)) → Q σ none) : wp (zD (d + 3) 94 [.inr (.inr (some (8, 0))), .inl c, .inl v] σ) Q := by
  refine wp_eq (c94 ..) (wp_eq (e94_0 ..) ?_)
  refine cvM (fun Q' k => mc_attr hM 4 rfl (by omega) k) fun σ hM => ?_
  refine cvM (fun Q' k => mc_put hM 4 rfl (by rw [List.length_append, fn_attr_len]; omega) (by omega) k) fun σ hM => ?_
  refine wp_ret (k σ ?_)
  rw [List.append_assoc] at hM
  exact hM
theorem ml_pad {T : z_St} {A : w_A} {d : Nat} {Q : z_St → Option z_V → Prop} : ∀ (n : Nat) (σ : z_St) (l : List Int32), w_M T σ (fn_page A l) → (4 - l.length % 4) % 4 = n → l.length + n ≤ 700 → (∀ σ, w_M T σ (fn_page A (l ++ List.replicate n 0)) → Q σ none) →
    wp (E xP95 (zD (d + 1)) 0 [some (.inr (.inr (some (8, 0))))] [] σ) Q
  | 0, σ, l, hM, hn, hl, k => by
    refine wp_eq (e95_0 ..) ?_
    simp (disch := omega) only [fm hM, rm_PG hM, ev_rd, ev_io, ev_ev, ev_st, aEl, z_w, z_cat, Nat.reduceMod, Nat.reduceDiv, Nat.reduceLeDiff, Nat.reduceLT, Nat.reduceAdd, Nat.reduceMul, Nat.reduceSub, Nat.reduceEqDiff, Int32.reduceLT, Int32.reduceLE, Int32.reduceAdd, Int32.reduceSub, Int32.reduceMul, true_and, and_true, false_and, and_false, true_or, or_true, false_or, or_false, not_true_eq_false, not_false_eq_true, if_true, if_false, reduceIte, ne_eq, and_self, or_self, reduceCtorEq, Option.some.injEq, Prod.mk.injEq]
    rw [if_pos (by omega)]
    refine wp_eq (e95_2 ..) (wp_ret (k _ ?_))
    rw [List.replicate_zero, List.append_nil]
    exact hM
  | n + 1, σ, l, hM, hn, hl, k => by
    refine wp_eq (e95_0 ..) ?_
    simp (disch := omega) only [fm hM, rm_PG hM, ev_rd, ev_io, ev_ev, ev_st, aEl, z_w, z_cat, Nat.reduceMod, Nat.reduceDiv, Nat.reduceLeDiff, Nat.reduceLT, Nat.reduceAdd, Nat.reduceMul, Nat.reduceSub, Nat.reduceEqDiff, Int32.reduceLT, Int32.reduceLE, Int32.reduceAdd, Int32.reduceSub, Int32.reduceMul, true_and, and_true, false_and, and_false, true_or, or_true, false_or, or_false, not_true_eq_false, not_false_eq_true, if_true, if_false, reduceIte, ne_eq, and_self, or_self, reduceCtorEq, Option.some.injEq, Prod.mk.injEq]
    rw [if_neg (by omega)]
    refine wp_eq (e95_1 ..) ?_
    refine cvM (fun Q' k => mc_put hM 1 rfl (by omega) (by omega) k) fun σ hM => ?_
    refine ml_pad n _ (l ++ bI 0 1) hM (by rw [List.length_append, bI_len]; omega) (by rw [List.length_append, bI_len]; omega) ?_
    rw [List.append_assoc]
    exact k
theorem mc_pad {T σ : z_St} {A : w_A} {l : List Int32} (hM : w_M T σ (fn_page A l)) {d : Nat} (hl : l.length + 3 ≤ 700) {Q : z_St → Option z_V → Prop} (k : ∀ σ, w_M T σ (fn_page A (l ++ fn_pad l.length)) → Q σ none) : wp (zD (d + 2) 95 [.inr (.inr (some (8, 0)))] σ) Q :=
  wp_eq (c95 ..) (ml_pad _ σ l hM rfl (by omega) k)
theorem ml_text {T : z_St} {A : w_A} {d : Nat} {a f : Nat} {m : List Int32} (ha : aTy a = 17) (hf : f + m.length ≤ aLen a) (hL : aLen a < 2147483648) (hm : m.length ≤ 40) (hb : z_by m) {Q : z_St → Option z_V → Prop} (hr : ∀ σ l, w_M T σ (fn_page A l) → ∀ j, (hj : j < m.length) → gI σ a 0 (f + j) = m[j]) :
    ∀ (n : Nat) (i : Nat) (σ : z_St) (l : List Int32), w_M T σ (fn_page A l) → i + n = m.length → l.length + n + 3 ≤ 700 → (∀ σ, w_M T σ (fn_page A (l ++ m.drop i)) → wp (E xP96 (zD (d + 2)) 3 [some (.inr (.inr (some (8, 0)))), none, none, none, none, none] [] σ) Q) →
    wp (E xP96 (zD (d + 2)) 1 [some (.inr (.inr (some (8, 0)))), none, some (.inr (.inr (some (a, 0)))), some (.inl (Int32.ofNat f)), some (.inl (Int32.ofNat m.length)), some (.inl (Int32.ofNat i))] [] σ) Q
  | 0, i, σ, l, hM, hi, hl, k => by
    refine wp_eq (e96_1 ..) ?_
    rw [if_pos (by rw [io_le (by omega) (by omega)]; omega)]
    have := k σ
    rw [List.drop_of_length_le (by omega), List.append_nil] at this
    exact this hM
  | n + 1, i, σ, l, hM, hi, hl, k => by
    refine wp_eq (e96_1 ..) ?_
    rw [if_neg (by rw [io_le (by omega) (by omega)]; omega)]
    refine wp_eq (e96_2 ..) ?_
    have e := hr σ l hM i (by omega)
    rw [dr_some]
    refine wp_gd ha ?_
    rw [io_add]
    refine wp_gd (zin_io (show f + i < aLen a by omega) (show aLen a ≤ 2147483648 by omega)) ?_
    rw [io_nat (by omega), e]
    refine cvM (fun Q' k => mc_put hM 1 rfl (by omega) (by omega) k) fun σ hM => ?_
    rw [io_add_l]
    refine ml_text ha hf hL hm hb hr n (i + 1) _ (l ++ bI m[i] 1) hM (by omega) (by rw [List.length_append, bI_len]; omega) ?_
    have e2 : bI m[i] 1 = [m[i]] := by
      show [by8 m[i] 0] = _
      rw [by8_0, hb _ (List.getElem_mem _)]
    rw [List.append_assoc, e2]
    have e3 : [m[i]] ++ m.drop (i + 1) = m.drop i := by
      exact (List.drop_eq_getElem_cons (show i < m.length by omega)).symm
    rw [e3]
    exact k
theorem mc_text {T σ : z_St} {A : w_A} {l : List Int32} (hM : w_M T σ (fn_page A l)) {d : Nat} {c : Int32} {a f : Nat} {m : List Int32} {x3 x4 : Int32} (h3 : x3 = Int32.ofNat f) (h4x : x4 = Int32.ofNat m.length) (ha : aTy a = 17) (hf : f + m.length ≤ aLen a) (hL : aLen a < 2147483648) (hm : m.length ≤ 40) (hb : z_by m) (hr : ∀ σ l, w_M T σ (fn_page A l) → ∀ j, (hj : j < m.length) → gI σ a 0 (f + j) = m[j])
    (h4 : l.length % 4 = 0) (hl : l.length + 51 ≤ 700) {Q : z_St → Option z_V → Prop} (k : ∀ σ, w_M T σ (fn_page A (l ++ fn_txt c m)) → Q σ none) : wp (zD (d + 3) 96 [.inr (.inr (some (8, 0))), .inl c, .inr (.inr (some (a, 0))), .inl x3, .inl x4] σ) Q := by
  subst h3 h4x
  refine wp_eq (c96 ..) (wp_eq (e96_0 ..) ?_)
  refine cvM (fun Q' k => mc_attr hM m.length rfl (by omega) k) fun σ hM => ?_
  refine ml_text ha hf hL hm hb hr m.length 0 σ _ hM (by omega) (by rw [List.length_append, fn_attr_len]; omega) fun σ hM => ?_
  refine wp_eq (e96_3 ..) ?_
  rw [List.drop_zero] at hM
  refine cvM (fun Q' k => mc_pad hM (by rw [List.length_append, List.length_append, fn_attr_len]; omega) k) fun σ hM => ?_
  refine wp_ret (k σ ?_)
  have e : (l ++ fn_attr c m.length ++ m ++ fn_pad (l ++ fn_attr c m.length ++ m).length) = l ++ fn_txt c m := by
    unfold fn_txt
    rw [List.length_append, List.length_append, fn_attr_len]
    have : fn_pad (l.length + 8 + m.length) = fn_pad m.length := by
      unfold fn_pad
      rw [show (l.length + 8 + m.length) % 4 = m.length % 4 by omega]
    rw [this]
    simp only [List.append_assoc]
  rw [← e]
  exact hM
theorem mc_head {T σ : z_St} {A : w_A} (hM : w_M T σ A) {d : Nat} {x1 x2 x3 x4 x5 : Int32} {Q : z_St → Option z_V → Prop} (k : ∀ σ, w_M T σ (fn_page A (fn_hd x1 x2 x3 x4 x5)) → Q σ none) : wp (zD (d + 2) 92 [.inr (.inr (some (8, 0))), .inl x1, .inl x2, .inl x3, .inl x4, .inl x5] σ) Q := by
  refine wp_eq (c92 ..) (wp_eq (e92_0 ..) ?_)
  simp only [sw]
  refine cvM (fun Q' k => mc_put (m_PG0 hM) 1 rfl (by decide) (by omega) k) fun σ hM => ?_
  refine cvM (fun Q' k => mc_put hM 3 rfl (by simp only [List.length_append, bI_len, List.length_nil]; omega) (by omega) k) fun σ hM => ?_
  refine cvM (fun Q' k => mc_put hM 1 rfl (by simp only [List.length_append, bI_len, List.length_nil]; omega) (by omega) k) fun σ hM => ?_
  refine cvM (fun Q' k => mc_put hM 3 rfl (by simp only [List.length_append, bI_len, List.length_nil]; omega) (by omega) k) fun σ hM => ?_
  refine cvM (fun Q' k => mc_put hM 4 rfl (by simp only [List.length_append, bI_len, List.length_nil]; omega) (by omega) k) fun σ hM => ?_
  refine cvM (fun Q' k => mc_put hM 4 rfl (by simp only [List.length_append, bI_len, List.length_nil]; omega) (by omega) k) fun σ hM => ?_
  refine cvM (fun Q' k => mc_put hM 4 rfl (by simp only [List.length_append, bI_len, List.length_nil]; omega) (by omega) k) fun σ hM => ?_
  exact wp_ret (k _ hM)
theorem txt_mod (c : Int32) (m : List Int32) {l : List Int32} (h : l.length % 4 = 0) : (l ++ fn_txt c m).length % 4 = 0 := by
  rw [List.length_append, fn_txt_len]
  omega
theorem mc_me {T σ : z_St} {A : w_A} {l : List Int32} (hM : w_M T σ (fn_page A l)) {d : Nat} (hm : (vL A 1 0).length ≤ 40) (hb : z_by (vL A 1 0)) (h4 : l.length % 4 = 0) (hl : l.length + 63 ≤ 700) {Q : z_St → Option z_V → Prop} (k : ∀ σ, w_M T σ (fn_page A (l ++ fn_me A)) → Q σ none) : wp (zD (d + 4) 97 [.inr (.inr (some (8, 0)))] σ) Q := by
  refine wp_eq (c97 ..) (wp_eq (e97_0 ..) ?_)
  have hG := hM.2.2.2.2.2.1
  rw [rm_p5 hM, hG.2.2.1]
  refine cvM (fun Q' k => mc_text hM rfl rfl (by decide) (by show 0 + (vL A 1 0).length ≤ 40; omega) (by decide) hm hb (fun σ l h => ?_) h4 (by omega) k) fun σ hM => ?_
  · have := h.2.2.2.2.2.1.2.2.2.1
    exact this
  refine cvM (fun Q' k => mc_attr hM 4 rfl (by rw [List.length_append, fn_txt_len]; omega) k) fun σ hM => ?_
  refine cvM (fun Q' k => mc_put hM 4 rfl (by rw [List.length_append, List.length_append, fn_attr_len, fn_txt_len]; omega) (by omega) k) fun σ hM => ?_
  refine wp_ret (k σ ?_)
  simp only [List.append_assoc] at hM
  exact hM
theorem mc_addr {T σ : z_St} {A : w_A} {l : List Int32} (hM : w_M T σ (fn_page A l)) {d : Nat} (h4 : l.length % 4 = 0) (hl : l.length + 52 ≤ 700) {Q : z_St → Option z_V → Prop} (k : ∀ σ, w_M T σ (fn_page A (l ++ fn_addr)) → Q σ none) : wp (zD (d + 4) 98 [.inr (.inr (some (8, 0)))] σ) Q := by
  refine wp_eq (c98 ..) (wp_eq (e98_0 ..) ?_)
  refine cvM (fun Q' k => mc_attr hM 6 rfl (by omega) k) fun σ hM => ?_
  refine cvM (fun Q' k => mc_put hM 2 rfl (by simp only [List.length_append, fn_attr_len, bI_len]; omega) (by omega) k) fun σ hM => ?_
  refine cvM (fun Q' k => mc_put hM 4 rfl (by simp only [List.length_append, fn_attr_len, bI_len]; omega) (by omega) k) fun σ hM => ?_
  refine cvM (fun Q' k => mc_pad hM (by simp only [List.length_append, fn_attr_len, bI_len]; omega) k) fun σ hM => ?_
  have e : fn_pad (l ++ fn_attr 257 6 ++ bI 1 2 ++ bI 2130706433 4).length = [0, 0] := by
    simp only [List.length_append, fn_attr_len, bI_len]
    unfold fn_pad
    rw [show (4 - (l.length + 8 + 2 + 4) % 4) % 4 = 2 by omega]
    rfl
  rw [e] at hM
  have lz : ([0, 0] : List Int32).length = 2 := rfl
  refine cvM (fun Q' k => mc_num hM (by simp only [List.length_append, fn_attr_len, bI_len, lz]; omega) k) fun σ hM => ?_
  refine cvM (fun Q' k => mc_attr hM 4 rfl (by simp only [List.length_append, fn_attr_len, bI_len, lz, fn_num_len]; omega) k) fun σ hM => ?_
  refine cvM (fun Q' k => mc_put hM 4 rfl (by simp only [List.length_append, fn_attr_len, bI_len, lz, fn_num_len]; omega) (by omega) k) fun σ hM => ?_
  refine cvM (fun Q' k => mc_num hM (by simp only [List.length_append, fn_attr_len, bI_len, lz, fn_num_len]; omega) k) fun σ hM => ?_
  refine wp_ret (k σ ?_)
  have e2 : (l ++ fn_attr 257 6 ++ bI 1 2 ++ bI 2130706433 4 ++ [0, 0] ++ fn_num 266 0 ++ fn_attr 269 4 ++ bI 1885693298 4 ++ fn_num 258 4) = l ++ fn_addr := by
    simp only [List.append_assoc]
    rfl
  rw [← e2]
  exact hM
