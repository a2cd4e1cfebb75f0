/-! PART 43 (src 43.xsend.src): the component's page goes -/
theorem xc_origin {T σ : z_St} {A : w_A} {l : List Int32} (hX : w_X T σ (fn_page A l)) {d : Nat} (hm : (vL A 1 0).length ≤ 40) (h4 : l.length % 4 = 0) (hl : l.length + 102 ≤ 700) {Q : z_St → Option z_V → Prop} (k : ∀ σ, w_X T σ (fn_page A (l ++ fn_me A)) → Q σ none) : wp (zD (d + 4) 11 [.inr (.inr (some (0, 0)))] σ) Q := by
  refine wp_eq (c11 ..) (wp_eq (e11_0 ..) ?_)
  simp (disch := omega) only [fx hX, ev_ev, ev_st, aEl, z_w, z_cat, Nat.reduceMod, Nat.reduceDiv, Nat.reduceLeDiff, Nat.reduceLT, Nat.reduceAdd, Nat.reduceMul, Nat.reduceSub, Nat.reduceEqDiff, Int32.reduceLT, Int32.reduceLE, Int32.reduceAdd, Int32.reduceSub, Int32.reduceMul, true_and, and_true, false_and, and_false, true_or, or_true, false_or, or_false, not_true_eq_false, not_false_eq_true, if_true, if_false, reduceIte, ne_eq, and_self, or_self, reduceCtorEq, Option.some.injEq, Prod.mk.injEq]
  refine cvX (fun Q' k => xc_text hX (m := vL A 1 0) (fun σ l h => ?_) hm h4 (by omega) k) fun σ hX => ?_
  · exact rx_HOST (A := fn_page A l) h
  simp (disch := omega) only [fx hX, ev_ev, ev_st, aEl, z_w, z_cat, Nat.reduceMod, Nat.reduceDiv, Nat.reduceLeDiff, Nat.reduceLT, Nat.reduceAdd, Nat.reduceMul, Nat.reduceSub, Nat.reduceEqDiff, Int32.reduceLT, Int32.reduceLE, Int32.reduceAdd, Int32.reduceSub, Int32.reduceMul, true_and, and_true, false_and, and_false, true_or, or_true, false_or, or_false, not_true_eq_false, not_false_eq_true, if_true, if_false, reduceIte, ne_eq, and_self, or_self, reduceCtorEq, Option.some.injEq, Prod.mk.injEq]
  refine cvX (fun Q' k => xc_text hX (m := [104, 111, 109, 101]) (fun σ l h => ?_) (by decide) (txt_mod _ _ h4) (by rw [List.length_append, fn_txt_len]; omega) k) fun σ hX => ?_
  · exact rx_realm h
  refine wp_ret (k σ ?_)
  rw [List.append_assoc] at hX
  exact hX
theorem xc_capab {T σ : z_St} {A : w_A} {l : List Int32} (hX : w_X T σ (fn_page A l)) {d : Nat} (h4 : l.length % 4 = 0) (hl : l.length + 92 ≤ 700) {Q : z_St → Option z_V → Prop} (k : ∀ σ, w_X T σ (fn_page A (l ++ fn_addr)) → Q σ none) : wp (zD (d + 4) 12 [.inr (.inr (some (0, 0)))] σ) Q := by
  refine wp_eq (c12 ..) (wp_eq (e12_0 ..) ?_)
  simp (disch := omega) only [fx hX, ev_ev, ev_st, aEl, z_w, z_cat, Nat.reduceMod, Nat.reduceDiv, Nat.reduceLeDiff, Nat.reduceLT, Nat.reduceAdd, Nat.reduceMul, Nat.reduceSub, Nat.reduceEqDiff, Int32.reduceLT, Int32.reduceLE, Int32.reduceAdd, Int32.reduceSub, Int32.reduceMul, true_and, and_true, false_and, and_false, true_or, or_true, false_or, or_false, not_true_eq_false, not_false_eq_true, if_true, if_false, reduceIte, ne_eq, and_self, or_self, reduceCtorEq, Option.some.injEq, Prod.mk.injEq]
  refine cvX (fun Q' k => xc_addr hX h4 (by omega) k) fun σ hX => ?_
  have n1 : (fn_attr 257 6 ++ [0, 1, 127, 0, 0, 1, 0, 0]).length = 16 := rfl
  simp (disch := omega) only [fx hX, ev_ev, ev_st, aEl, z_w, z_cat, Nat.reduceMod, Nat.reduceDiv, Nat.reduceLeDiff, Nat.reduceLT, Nat.reduceAdd, Nat.reduceMul, Nat.reduceSub, Nat.reduceEqDiff, Int32.reduceLT, Int32.reduceLE, Int32.reduceAdd, Int32.reduceSub, Int32.reduceMul, true_and, and_true, false_and, and_false, true_or, or_true, false_or, or_false, not_true_eq_false, not_false_eq_true, if_true, if_false, reduceIte, ne_eq, and_self, or_self, reduceCtorEq, Option.some.injEq, Prod.mk.injEq]
  refine cvX (fun Q' k => xc_num hX (by rw [List.length_append, n1]; omega) k) fun σ hX => ?_
  simp (disch := omega) only [fx hX, ev_ev, ev_st, aEl, z_w, z_cat, Nat.reduceMod, Nat.reduceDiv, Nat.reduceLeDiff, Nat.reduceLT, Nat.reduceAdd, Nat.reduceMul, Nat.reduceSub, Nat.reduceEqDiff, Int32.reduceLT, Int32.reduceLE, Int32.reduceAdd, Int32.reduceSub, Int32.reduceMul, true_and, and_true, false_and, and_false, true_or, or_true, false_or, or_false, not_true_eq_false, not_false_eq_true, if_true, if_false, reduceIte, ne_eq, and_self, or_self, reduceCtorEq, Option.some.injEq, Prod.mk.injEq]
  refine cvX (fun Q' k => xc_text hX (m := [112, 101, 101, 114]) (fun σ l h => ?_) (by decide) (by rw [List.length_append, List.length_append, n1, fn_num_len]; omega) (by rw [List.length_append, List.length_append, n1, fn_num_len]; omega) k) fun σ hX => ?_
  · exact rx_prod h
  simp (disch := omega) only [fx hX, ev_ev, ev_st, aEl, z_w, z_cat, Nat.reduceMod, Nat.reduceDiv, Nat.reduceLeDiff, Nat.reduceLT, Nat.reduceAdd, Nat.reduceMul, Nat.reduceSub, Nat.reduceEqDiff, Int32.reduceLT, Int32.reduceLE, Int32.reduceAdd, Int32.reduceSub, Int32.reduceMul, true_and, and_true, false_and, and_false, true_or, or_true, false_or, or_false, not_true_eq_false, not_false_eq_true, if_true, if_false, reduceIte, ne_eq, and_self, or_self, reduceCtorEq, Option.some.injEq, Prod.mk.injEq]
  have n2 : (fn_txt 269 [112, 101, 101, 114]).length = 12 := rfl
  refine cvX (fun Q' k => xc_num hX (by rw [List.length_append, List.length_append, List.length_append, n1, n2, fn_num_len]; omega) k) fun σ hX => ?_
  refine wp_ret (k σ ?_)
  simp only [List.append_assoc] at hX
  exact hX
theorem getD_lt {l : List Int32} {i : Nat} (h : i < l.length) : l.getD i 0 = l[i] := by
  rw [List.getD_eq_getElem?_getD, List.getElem?_eq_getElem h]
  rfl
theorem fn_fix_get {l : List Int32} (h : 4 ≤ l.length) (k : Nat) (hk : k < (fn_fix l).length) : (fn_fix l)[k] = if k = 1 then by8 (Int32.ofNat l.length) 2 else if k = 2 then by8 (Int32.ofNat l.length) 1 else if k = 3 then by8 (Int32.ofNat l.length) 0 else l[k]'(by rw [fn_fix_len h] at hk; exact hk) := by
  match l, h with
  | a :: b :: c :: e :: m, _ =>
    match k with
    | 0 => rfl
    | 1 => rfl
    | 2 => rfl
    | 3 => rfl
    | k + 4 => rfl
def x_sets (a : Nat) (v : Int64) (n : Nat) : Nat → Nat → z_St → z_St
  | 0, _, σ => σ
  | r + 1, i, σ => x_sets a v n r (i + 1) (wI σ 79714193 0 (a + i) (byJ v (Int32.ofNat (n - 1 - i))))
theorem xl_set {d a : Nat} {v : Int64} {n : Nat} (ha : a + n ≤ 700) {Q : z_St → Option z_V → Prop} : ∀ (r i : Nat) (σ : z_St), i + r = n → gR σ 2 0 0 = some (79714193, 0) → Q (x_sets a v n r i σ) none →
    wp (E xP218 (zD d) 1 [some (.inr (.inr (some (2, 0)))), some (.inl (Int32.ofNat a)), some (.inr (.inl v)), none, some (.inl (Int32.ofNat n)), some (.inl (Int32.ofNat i))] [] σ) Q
  | 0, i, σ, hi, hp, k => by
    refine wp_eq (e218_1 ..) ?_
    rw [if_pos (by rw [io_le (by omega) (by omega)]; omega)]
    exact wp_eq (e218_3 ..) (wp_ret k)
  | r + 1, i, σ, hi, hp, k => by
    refine wp_eq (e218_1 ..) ?_
    rw [if_neg (by rw [io_le (by omega) (by omega)]; omega)]
    refine wp_eq (e218_2 ..) ?_
    rw [hp, dr_some]
    refine wp_gd (by decide) ?_
    rw [io_add]
    refine wp_gd (zin_io (show a + i < 700 by omega) (by decide)) ?_
    rw [io_nat (by omega), Int8.toInt8_toInt32, show (Int32.ofNat n - 1 : Int32) = Int32.ofNat n - Int32.ofNat 1 from rfl, io_sub (show 1 ≤ n by omega), io_sub (show i ≤ n - 1 by omega), io_add_l]
    exact xl_set ha r (i + 1) _ (by omega) hp k
theorem xc_set {d a : Nat} {v : Int64} {n : Nat} {σ : z_St} {x y : Int32} (hx : x = Int32.ofNat a) (hy : y = Int32.ofNat n) (ha : a + n ≤ 700) (hp : gR σ 2 0 0 = some (79714193, 0)) {Q : z_St → Option z_V → Prop} (k : Q (x_sets a v n n 0 σ) none) : wp (zD (d + 1) 218 [.inr (.inr (some (2, 0))), .inl x, .inr (.inl v), .inl y] σ) Q := by
  subst hx hy
  exact wp_eq (c218 ..) (wp_eq (e218_0 ..) (xl_set ha n 0 σ (by omega) hp k))
theorem x_sets3 (v : Int64) (σ : z_St) : x_sets 1 v 3 3 0 σ = wI (wI (wI σ 79714193 0 1 (byJ v 2)) 79714193 0 2 (byJ v 1)) 79714193 0 3 (byJ v 0) := by
  rw [x_sets, x_sets, x_sets, x_sets]
  rfl
/-- the length in the head -/
theorem xc_end {T σ : z_St} {A : w_A} {l : List Int32} (hX : w_X T σ (fn_page A l)) {d : Nat} (h4 : 4 ≤ l.length) (hl : l.length ≤ 700) {Q : z_St → Option z_V → Prop} (k : ∀ σ, w_X T σ (fn_page A l) → (∀ j, (h : j < (fn_fix l).length) → gI σ 79714193 0 j = (fn_fix l)[j]) → Q σ none) : wp (zD (d + 2) 220 [.inr (.inr (some (2, 0)))] σ) Q := by
  refine wp_eq (c220 ..) (wp_eq (e220_0 ..) (wp_cv ?_))
  refine xc_set (a := 1) (n := 3) rfl rfl (by decide) (rx_p2_0 hX) ⟨rfl, wp_ret ?_⟩
  rw [rx_PG hX]
  rw [x_sets3, byJ_2, byJ_1, byJ_0, Int32.toInt32_toInt64]
  have hm : ∀ σ (j : Nat) b, 1 ≤ j → j ≤ 3 → w_X T σ (fn_page A l) → w_X T (wI σ 79714193 0 j b) (fn_page A l) := fun σ j b h1 h2 h => x_PGe (x_PGs h j b) List.length_set (fun k h3 h4 hne => by rw [List.getElem_set_ne (by intro e; exact hne (by omega))])
  refine k _ (hm _ 3 _ (by omega) (by omega) (hm _ 2 _ (by omega) (by omega) (hm _ 1 _ (by omega) (by omega) hX))) fun j hj => ?_
  rw [fn_fix_get h4]
  rw [fn_fix_len h4] at hj
  have hc := hX.2.2.2.2.2.2.2.2.2.2.2.2.1.2
  rw [fn_page_PG] at hc
  simp only [gI_wI, true_and]
  by_cases e1 : j = 1
  · subst e1; simp
  by_cases e2 : j = 2
  · subst e2; simp
  by_cases e3 : j = 3
  · subst e3; simp
  simp only [e1, e2, e3, if_false]
  exact hc j hj (by omega)
/-- a cell of a queue that isn't in use -/
theorem x_Qw {T σ : z_St} {A : w_A} (h : w_X T σ A) {c : Nat} (hc1 : 1 ≤ c) (hc : c ≤ 8) {f p : Nat} (hf : f < 2000) (h7 : gI σ 4 7 c = Int32.ofNat f) (hp : ∀ k, k < (vL A 3 c).length → p ≠ (f + k) % 2000) (b : Int32) : w_X T (wI σ 74512913 c p b) A := by
  obtain ⟨hT, hA, hB, hC, hD, hE, hF, hG, hH, hI, hJ, hK, hL, hM, hN⟩ := h
  refine ⟨x_T_wI hT (z_isM_dec _ rfl), hA, hB, hC, hD, hE, hF, hG, ?_, hI, hJ, hK, hL, hM, hN⟩
  intro e he1 he
  obtain ⟨g1, g2, f2, g3, g4, g5⟩ := hH e he1 he
  refine ⟨g1, g2, f2, g3, g4, fun k hk => ?_⟩
  rw [gI_wI, if_neg, g5 k hk]
  rintro ⟨-, e2, e3⟩
  subst e2
  have : f2 = f := by
    have g6 : Int32.ofNat f2 = Int32.ofNat f := g4.symm.trans h7
    rwa [io_inj (by omega) (by omega)] at g6
  subst this
  exact hp k hk e3.symm
theorem xl_lput {T : z_St} {A : w_A} {d c f n : Nat} {P : Nat → Int32} (hc1 : 1 ≤ c) (hc : c ≤ 8) (hf : f < 2000) (hn : (vL A 3 c).length + n ≤ 2000) (hn7 : n ≤ 700) {Q : z_St → Option z_V → Prop} : ∀ (r j : Nat) (σ : z_St), j + r = n → w_X T σ A → gI σ 4 7 c = Int32.ofNat f →
    (∀ i, i < n → gI σ 79714193 0 i = P i) → (∀ i, i < j → gI σ 74512913 c ((f + (vL A 3 c).length + i) % 2000) = nb (P i)) →
    (∀ σ, w_X T σ A → gI σ 4 7 c = Int32.ofNat f → (∀ i, i < n → gI σ 74512913 c ((f + (vL A 3 c).length + i) % 2000) = nb (P i)) → wp (E xP194 (zD d) 5 [some (.inr (.inr (some (4, c)))), none, some (.inl (Int32.ofNat n)), none] [] σ) Q) →
    wp (E xP194 (zD d) 3 [some (.inr (.inr (some (4, c)))), some (.inr (.inr (some (79714193, 0)))), some (.inl (Int32.ofNat n)), some (.inl (Int32.ofNat j))] [] σ) Q
  | 0, j, σ, hj, hX, h7, hP, hQ, k => by
    refine wp_eq (e194_3 ..) ?_
    rw [if_pos (by rw [io_le (by omega) (by omega)]; omega)]
    exact k σ hX h7 (fun i hi => hQ i (by omega))
  | r + 1, j, σ, hj, hX, h7, hP, hQ, k => by
    refine wp_eq (e194_3 ..) ?_
    rw [if_neg (by rw [io_le (by omega) (by omega)]; omega)]
    refine wp_eq (e194_4 ..) ?_
    have h8 : gI σ 4 8 c = Int32.ofNat (vL A 3 c).length := (hX.2.2.2.2.2.2.2.2.1 c hc1 hc).2.1
    simp (disch := omega) only [fx hX, h7, h8, hP j (by omega), ev_io, ev_ev, ev_st, aEl, z_w, z_cat, Nat.reduceMod, Nat.reduceDiv, Nat.reduceLeDiff, Nat.reduceLT, Nat.reduceAdd, Nat.reduceMul, Nat.reduceSub, Nat.reduceEqDiff, Int32.reduceLT, Int32.reduceLE, Int32.reduceAdd, Int32.reduceSub, Int32.reduceMul, true_and, and_true, false_and, and_false, true_or, or_true, false_or, or_false, not_true_eq_false, not_false_eq_true, if_true, if_false, reduceIte, ne_eq, and_self, or_self, reduceCtorEq, Option.some.injEq, Prod.mk.injEq, sw, nb_un]
    refine xl_lput hc1 hc hf hn hn7 r (j + 1) _ (by omega) (x_Qw hX hc1 hc hf h7 (fun k hk => by omega) _) h7 (fun i hi => ?_) (fun i hi => ?_) k
    · exact hP i hi
    · rw [gI_wI]
      by_cases e : i = j
      · subst e
        rw [if_pos ⟨rfl, rfl, rfl⟩]
      · rw [if_neg (by omega), hQ i (by omega)]
theorem x_Qp {T σ : z_St} {A : w_A} (h : w_X T σ A) {c : Nat} (hc1 : 1 ≤ c) (hc : c ≤ 8) {f : Nat} (hf : f < 2000) (h7 : gI σ 4 7 c = Int32.ofNat f) (m : List Int32) (hm : (vL A 3 c).length + m.length ≤ 2000)
    (hQ : ∀ i, (hi : i < m.length) → gI σ 74512913 c ((f + (vL A 3 c).length + i) % 2000) = m[i]) : w_X T (wI σ 4 8 c (Int32.ofNat ((vL A 3 c).length + m.length))) (sL A 3 c (vL A 3 c ++ m)) := by
  obtain ⟨hT, hA, hB, hC, hD, hE, hF, hG, hH, hI, hJ, hK, hL, hM, hN⟩ := h
  refine ⟨x_T_wI hT (z_isM_dec _ rfl), hA, hB, hC, hD, hE, hF, hG, ?_, hI, hJ, hK, hL, hM, hN⟩
  intro e he1 he
  by_cases hec : e = c
  · subst hec
    obtain ⟨g1, g2, f2, g3, g4, g5⟩ := hH e he1 he
    simp only [vL_sL, gI_wI, ev_rd, ev_st, aEl, z_w, z_cat, Nat.reduceMod, Nat.reduceDiv, Nat.reduceLeDiff, Nat.reduceLT, Nat.reduceAdd, Nat.reduceMul, Nat.reduceSub, Nat.reduceEqDiff, Int32.reduceLT, Int32.reduceLE, Int32.reduceAdd, Int32.reduceSub, Int32.reduceMul, true_and, and_true, false_and, and_false, true_or, or_true, false_or, or_false, not_true_eq_false, not_false_eq_true, if_true, if_false, reduceIte, ne_eq, and_self, or_self, reduceCtorEq, Option.some.injEq, Prod.mk.injEq]
    have hff : f2 = f := by
      have g6 : Int32.ofNat f2 = Int32.ofNat f := g4.symm.trans h7
      rwa [io_inj (by omega) (by omega)] at g6
    subst hff
    refine ⟨by rw [List.length_append]; exact hm, by rw [List.length_append], f2, hf, h7, fun k hk => ?_⟩
    rw [List.length_append] at hk
    by_cases e1 : k < (vL A 3 e).length
    · rw [List.getElem_append_left e1]
      exact g5 k e1
    · rw [List.getElem_append_right (by omega)]
      have := hQ (k - (vL A 3 e).length) (by omega)
      rw [show f2 + (vL A 3 e).length + (k - (vL A 3 e).length) = f2 + k by omega] at this
      exact this
  · have := hH e he1 he
    simp only [vL_sL, gI_wI, ev_rd, ev_st, aEl, z_w, z_cat, Nat.reduceMod, Nat.reduceDiv, Nat.reduceLeDiff, Nat.reduceLT, Nat.reduceAdd, Nat.reduceMul, Nat.reduceSub, Nat.reduceEqDiff, Int32.reduceLT, Int32.reduceLE, Int32.reduceAdd, Int32.reduceSub, Int32.reduceMul, true_and, and_true, false_and, and_false, true_or, or_true, false_or, or_false, not_true_eq_false, not_false_eq_true, if_true, if_false, reduceIte, ne_eq, and_self, or_self, reduceCtorEq, Option.some.injEq, Prod.mk.injEq, hec]
    exact this
theorem wp_asI0 {x : Int32} {f : Int32 → Option z_R} {Q : z_St → Option z_V → Prop} (h : wp (f x) Q) : wp (asI (.inl x) f) Q := h
/-- the page goes on a connection, if there is room -/
theorem xc_send {T σ : z_St} {A : w_A} (hX : w_X T σ A) {d c : Nat} (hc1 : 1 ≤ c) (hc : c ≤ 8) (h4 : 4 ≤ (vL A 12 0).length) (hl : (vL A 12 0).length ≤ 700) (hb : z_by (vL A 12 0)) {Q : z_St → Option z_V → Prop} (k : ∀ σ, w_X T σ (fn_send A c) → Q σ none) : wp (zD (d + 3) 9 [.inr (.inr (some (0, 0))), .inr (.inr (some (4, c)))] σ) Q := by
  rw [← fn_page_self A] at hX
  refine wp_eq (c9 ..) (wp_eq (e9_0 ..) ?_)
  simp (disch := omega) only [fx hX, ev_ev, ev_st, aEl, z_w, z_cat, Nat.reduceMod, Nat.reduceDiv, Nat.reduceLeDiff, Nat.reduceLT, Nat.reduceAdd, Nat.reduceMul, Nat.reduceSub, Nat.reduceEqDiff, Int32.reduceLT, Int32.reduceLE, Int32.reduceAdd, Int32.reduceSub, Int32.reduceMul, true_and, and_true, false_and, and_false, true_or, or_true, false_or, or_false, not_true_eq_false, not_false_eq_true, if_true, if_false, reduceIte, ne_eq, and_self, or_self, reduceCtorEq, Option.some.injEq, Prod.mk.injEq]
  refine wp_cv (xc_end hX h4 hl fun σ hX hP => ⟨rfl, ?_⟩)
  have hp := rx_PG hX
  rw [fn_page_self A] at hX
  simp (disch := omega) only [fx hX, hp, ev_ev, ev_st, aEl, z_w, z_cat, Nat.reduceMod, Nat.reduceDiv, Nat.reduceLeDiff, Nat.reduceLT, Nat.reduceAdd, Nat.reduceMul, Nat.reduceSub, Nat.reduceEqDiff, Int32.reduceLT, Int32.reduceLE, Int32.reduceAdd, Int32.reduceSub, Int32.reduceMul, true_and, and_true, false_and, and_false, true_or, or_true, false_or, or_false, not_true_eq_false, not_false_eq_true, if_true, if_false, reduceIte, ne_eq, and_self, or_self, reduceCtorEq, Option.some.injEq, Prod.mk.injEq]
  refine wp_cr (wp_eq (c194 ..) (wp_eq (e194_0 ..) ?_))
  obtain ⟨g1, g2, f, g3, g4, g5⟩ := hX.2.2.2.2.2.2.2.2.1 c hc1 hc
  rw [g2, io_add]
  have hfl := fn_fix_len h4
  by_cases hr : (vL A 3 c).length + (vL A 12 0).length ≤ 2000
  · rw [if_pos (by rw [show (2000 : Int32) = Int32.ofNat 2000 from rfl, io_le (by omega) (by omega)]; exact hr)]
    refine wp_eq (e194_2 ..) ?_
    refine xl_lput (P := fun i => (fn_fix (vL A 12 0)).getD i 0) hc1 hc g3 hr hl (vL A 12 0).length 0 σ (by omega) hX g4 (fun i hi => ?_) (fun i hi => by omega) fun σ hX h7 hQ => ?_
    · rw [hP i (by rw [hfl]; exact hi)]
      exact (getD_lt _).symm
    refine wp_eq (e194_5 ..) ?_
    have h8 : gI σ 4 8 c = Int32.ofNat (vL A 3 c).length := (hX.2.2.2.2.2.2.2.2.1 c hc1 hc).2.1
    have hX2 := x_Qp hX hc1 hc g3 h7 (fn_fix (vL A 12 0)) (by rw [hfl]; exact hr) (fun i hi => by
      rw [hQ i (by rw [hfl] at hi; exact hi), getD_lt hi]
      exact fn_fix_by hb _ (List.getElem_mem _))
    rw [h8, io_add]
    rw [hfl] at hX2
    refine wp_sw (wp_ret ⟨_, rfl, ?_⟩)
    rw [asI_mk, if_neg (by decide)]
    refine wp_eq (e9_2 ..) (wp_ret (k _ ?_))
    unfold fn_send
    rw [if_pos hr]
    exact hX2
  · rw [if_neg (by rw [show (2000 : Int32) = Int32.ofNat 2000 from rfl, io_le (by omega) (by omega)]; exact hr)]
    refine wp_eq (e194_1 ..) (wp_ret ⟨_, rfl, ?_⟩)
    rw [asI_mk, if_pos rfl]
    refine wp_eq (e9_1 ..) ?_
    rw [rx_LOST hX]
    refine wp_sw (wp_eq (e9_2 ..) (wp_ret (k _ ?_)))
    unfold fn_send
    rw [if_neg hr]
    exact wx_LOST hX _
