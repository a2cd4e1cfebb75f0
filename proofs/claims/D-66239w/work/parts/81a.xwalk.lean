/-! PART 81a (src 81a.xwalk.src): the component goes through a message's attributes -/
set_option maxHeartbeats 800000
/-- a message with what is wrong and what was seen -/
def z_mk (K : w_P) (w x : Int32) (l : List w_Q) : w_P := (pC K, pL K, pF K, pM K, pA_ K, pH K, pE K, w, x, l)
theorem xw3 {T σ : z_St} {A : w_A} (h : w_X T σ A) (hP : vP A = none) (b n : Nat) (x : Int32) : w_X T (wI σ 3 b n x) A := by
  obtain ⟨hT, hA, hB, hC, hD, hE, hF, hG, hH, hI, hJ, hK, hL, hM, hN⟩ := h
  exact ⟨x_T_wI hT (z_isM_dec _ rfl), hA, hB, hC, hD, hE, hF, hG, hH, hI, hJ, hK, hL, fun P e => absurd (hP.symm.trans e) (by simp), hN⟩
theorem xw3R {T σ : z_St} {A : w_A} (h : w_X T σ A) (hP : vP A = none) (x : Option z_Ad) : w_X T (wR σ 3 1 0 x) A := by
  obtain ⟨hT, hA, hB, hC, hD, hE, hF, hG, hH, hI, hJ, hK, hL, hM, hN⟩ := h
  exact ⟨x_T_wR hT (z_isM_dec _ rfl), hA, hB, hC, hD, hE, hF, hG, hH, hI, hJ, hK, hL, fun P e => absurd (hP.symm.trans e) (by simp), hN⟩
theorem xwC {T σ : z_St} {A : w_A} (h : w_X T σ A) (hP : vP A = none) (n : Nat) (x : Int32) : w_X T (wI σ 76548624 0 n x) A := by
  obtain ⟨hT, hA, hB, hC, hD, hE, hF, hG, hH, hI, hJ, hK, hL, hM, hN⟩ := h
  exact ⟨x_T_wI hT (z_isM_dec _ rfl), hA, hB, hC, hD, hE, hF, hG, hH, hI, hJ, hK, hL, fun P e => absurd (hP.symm.trans e) (by simp), hN⟩
theorem xwF {T σ : z_St} {A : w_A} (h : w_X T σ A) (hP : vP A = none) (n : Nat) (x : Int32) : w_X T (wI σ 77597200 0 n x) A := by
  obtain ⟨hT, hA, hB, hC, hD, hE, hF, hG, hH, hI, hJ, hK, hL, hM, hN⟩ := h
  exact ⟨x_T_wI hT (z_isM_dec _ rfl), hA, hB, hC, hD, hE, hF, hG, hH, hI, hJ, hK, hL, fun P e => absurd (hP.symm.trans e) (by simp), hN⟩
theorem xwS {T σ : z_St} {A : w_A} (h : w_X T σ A) (hP : vP A = none) (n : Nat) (x : Int32) : w_X T (wI σ 78645776 0 n x) A := by
  obtain ⟨hT, hA, hB, hC, hD, hE, hF, hG, hH, hI, hJ, hK, hL, hM, hN⟩ := h
  exact ⟨x_T_wI hT (z_isM_dec _ rfl), hA, hB, hC, hD, hE, hF, hG, hH, hI, hJ, hK, hL, fun P e => absurd (hP.symm.trans e) (by simp), hN⟩
theorem wp_asJ0 {x : Int64} {f : Int64 → Option z_R} {Q : z_St → Option z_V → Prop} (h : wp (f x) Q) : wp (asJ (.inr (.inl x)) f) Q := h
theorem wp_asR0 {x : Option z_Ad} {f : Option z_Ad → Option z_R} {Q : z_St → Option z_V → Prop} (h : wp (f x) Q) : wp (asR (.inr (.inr x)) f) Q := h
theorem xl_get {T σ : z_St} {A : w_A} (hX : w_X T σ A) {d c a n : Nat} (hc1 : 1 ≤ c) (hc : c ≤ 8) (hp : gR σ 3 1 0 = some (73419537, c)) (ha : a + n ≤ 600) {Q : z_St → Option z_V → Prop} (k : Q σ (some (.inr (.inl (gw (vI A 64) c a n))))) : ∀ (m j : Nat), j + m = n →
    wp (E xP197 (zD d) 1 [some (.inr (.inr (some (3, 0)))), some (.inl (Int32.ofNat a)), some (.inl (Int32.ofNat n)), some (.inr (.inl (gw (vI A 64) c a j))), none, some (.inl (Int32.ofNat j))] [] σ) Q
  | 0, j, hj => by
    refine wp_eq (e197_1 ..) (wp_if (fun hc => ?_) (fun hc => ?_)) <;> rw [io_le (by omega) (by omega)] at hc
    · have : j = n := by omega
      subst this
      exact wp_eq (e197_3 ..) (wp_ret k)
    · omega
  | m + 1, j, hj => by
    refine wp_eq (e197_1 ..) (wp_if (fun hc => ?_) (fun hc => ?_)) <;> rw [io_le (by omega) (by omega)] at hc
    · omega
    · refine wp_eq (e197_2 ..) (wp_dr hp (wp_gd aty_73419537 (wp_gd ?_ ?_)))
      · show zin (Int32.ofNat a + Int32.ofNat j) (aLen 73419537)
        rw [alen_73419537, io_add]; exact zin_io (by omega) (by decide)
      · dsimp only
        rw [io_add, io_nat (by omega), rx_I hX c hc1 ‹c ≤ 8› (a + j) (by omega), io_add_l]
        exact xl_get hX hc1 ‹c ≤ 8› hp ha k m (j + 1) (by omega)
theorem xc_get {T σ : z_St} {A : w_A} (hX : w_X T σ A) {d c a n : Nat} {x y : Int32} (hc1 : 1 ≤ c) (hc : c ≤ 8) (hp : gR σ 3 1 0 = some (73419537, c)) (ha : a + n ≤ 600) (hx : x = Int32.ofNat a) (hy : y = Int32.ofNat n) {Q : z_St → Option z_V → Prop} (k : Q σ (some (.inr (.inl (gw (vI A 64) c a n))))) : wp (zD (d + 1) 197 [.inr (.inr (some (3, 0))), .inl x, .inl y] σ) Q := by
  subst hx hy
  exact wp_eq (c197 ..) (wp_eq (e197_0 ..) (xl_get hX hc1 hc hp ha k n 0 (by omega)))
theorem xc_isReq {d : Nat} {σ : z_St} {f : Int32} (hf : gI σ 3 3 0 = f) {Q : z_St → Option z_V → Prop} (k : Q σ (some (.inl (b2i (¬ f &&& 128 = 0))))) : wp (zD (d + 1) 198 [.inr (.inr (some (3, 0)))] σ) Q := by
  refine wp_eq (c198 ..) (wp_eq (e198_0 ..) (wp_if (fun hc => ?_) (fun hc => ?_))) <;> rw [hf] at hc
  · rw [b2i_f (fun h => h hc)] at k
    exact wp_eq (e198_2 ..) (wp_eq (e198_3 ..) (wp_gd (.inl rfl) (wp_ret k)))
  · rw [b2i_t hc] at k
    exact wp_eq (e198_1 ..) (wp_eq (e198_3 ..) (wp_gd (.inr rfl) (wp_ret k)))
theorem xc_kind {d : Nat} {σ : z_St} {x : Int32} {Q : z_St → Option z_V → Prop} (k : Q σ (some (.inl (fn_kind x)))) : wp (zD (d + 1) 199 [.inl x] σ) Q := by
  refine wp_eq (c199 ..) (wp_eq (e199_0 ..) ?_)
  refine wp_if (fun h => ?_) (fun h257 => ?_)
  · subst h; exact wp_eq (e199_4 ..) (wp_ret k)
  refine wp_if (fun h => ?_) (fun h258 => ?_)
  · subst h; exact wp_eq (e199_2 ..) (wp_ret k)
  refine wp_if (fun h => ?_) (fun h263 => ?_)
  · subst h; exact wp_eq (e199_1 ..) (wp_ret k)
  refine wp_if (fun h => ?_) (fun h264 => ?_)
  · subst h; exact wp_eq (e199_1 ..) (wp_ret k)
  refine wp_if (fun h => ?_) (fun h266 => ?_)
  · subst h; exact wp_eq (e199_2 ..) (wp_ret k)
  refine wp_if (fun h => ?_) (fun h268 => ?_)
  · subst h; exact wp_eq (e199_2 ..) (wp_ret k)
  refine wp_if (fun h => ?_) (fun h269 => ?_)
  · subst h; exact wp_eq (e199_1 ..) (wp_ret k)
  refine wp_if (fun h => ?_) (fun h273 => ?_)
  · subst h; exact wp_eq (e199_2 ..) (wp_ret k)
  refine wp_if (fun h => ?_) (fun h278 => ?_)
  · subst h; exact wp_eq (e199_2 ..) (wp_ret k)
  refine wp_if (fun h => ?_) (fun h279 => ?_)
  · subst h; exact wp_eq (e199_5 ..) (wp_ret k)
  refine wp_if (fun h => ?_) (fun h283 => ?_)
  · subst h; exact wp_eq (e199_1 ..) (wp_ret k)
  refine wp_if (fun h => ?_) (fun h285 => ?_)
  · subst h; exact wp_eq (e199_2 ..) (wp_ret k)
  refine wp_if (fun h => ?_) (fun h293 => ?_)
  · subst h; exact wp_eq (e199_1 ..) (wp_ret k)
  refine wp_if (fun h => ?_) (fun h296 => ?_)
  · subst h; exact wp_eq (e199_1 ..) (wp_ret k)
  refine wp_if (fun h => ?_) (fun h415 => ?_)
  · subst h; exact wp_eq (e199_2 ..) (wp_ret k)
  refine wp_if (fun h => ?_) (fun h416 => ?_)
  · subst h; exact wp_eq (e199_2 ..) (wp_ret k)
  refine wp_if (fun h => ?_) (fun h421 => ?_)
  · subst h; exact wp_eq (e199_3 ..) (wp_ret k)
  refine wp_if (fun h => ?_) (fun h422 => ?_)
  · subst h; exact wp_eq (e199_2 ..) (wp_ret k)
  refine wp_if (fun h => ?_) (fun h431 => ?_)
  · subst h; exact wp_eq (e199_5 ..) (wp_ret k)
  refine wp_if (fun h => ?_) (fun h436 => ?_)
  · subst h; exact wp_eq (e199_2 ..) (wp_ret k)
  refine wp_if (fun h => ?_) (fun h437 => ?_)
  · subst h; exact wp_eq (e199_5 ..) (wp_ret k)
  refine wp_if (fun h => ?_) (fun h443 => ?_)
  · subst h; exact wp_eq (e199_5 ..) (wp_ret k)
  refine wp_if (fun h => ?_) (fun h444 => ?_)
  · subst h; exact wp_eq (e199_1 ..) (wp_ret k)
  refine wp_if (fun h => ?_) (fun h446 => ?_)
  · subst h; exact wp_eq (e199_5 ..) (wp_ret k)
  refine wp_if (fun h => ?_) (fun h448 => ?_)
  · subst h; exact wp_eq (e199_2 ..) (wp_ret k)
  refine wp_if (fun h => ?_) (fun h450 => ?_)
  · subst h; exact wp_eq (e199_2 ..) (wp_ret k)
  have e : fn_kind x = 0 := by unfold fn_kind; simp only [h257, h258, h263, h264, h266, h268, h269, h273, h278, h279, h283, h285, h293, h296, h415, h416, h421, h422, h431, h436, h437, h443, h444, h446, h448, h450, or_self, if_false]
  rw [e] at k
  exact wp_eq (e199_6 ..) (wp_ret k)
theorem xc_fits {d n : Nat} {σ : z_St} {kd y : Int32} (hy : y = Int32.ofNat n) (hn : n < 2147483648) {Q : z_St → Option z_V → Prop} (k : Q σ (some (.inl (b2i (fn_fits kd n))))) : wp (zD (d + 1) 200 [.inl kd, .inl y] σ) Q := by
  subst hy
  refine wp_eq (c200 ..) (wp_eq (e200_0 ..) (wp_if (fun h1 => ?_) (fun h1 => ?_)))
  · subst h1
    have e : fn_fits 1 n = (1 ≤ n ∧ n ≤ 40) := by unfold fn_fits; simp
    simp only [e] at k
    refine wp_eq (e200_1 ..) (wp_if (fun hc => ?_) (fun hc => ?_)) <;> rw [io_lt_l hn (by decide)] at hc
    · rw [b2i_f (by omega)] at k
      exact wp_eq (e200_4 ..) (wp_eq (e200_5 ..) (wp_gd (.inl rfl) (wp_ret k)))
    · refine wp_eq (e200_2 ..) (wp_if (fun hd => ?_) (fun hd => ?_)) <;> rw [io_llt hn (by decide)] at hd
      · rw [b2i_f (by omega)] at k
        exact wp_eq (e200_4 ..) (wp_eq (e200_5 ..) (wp_gd (.inl rfl) (wp_ret k)))
      · rw [b2i_t (by omega)] at k
        exact wp_eq (e200_3 ..) (wp_eq (e200_5 ..) (wp_gd (.inr rfl) (wp_ret k)))
  refine wp_if (fun h2 => ?_) (fun h2 => ?_)
  · subst h2
    have e : fn_fits 2 n = (n = 4) := by unfold fn_fits; simp
    simp only [e] at k
    refine wp_eq (e200_6 ..) (wp_if (fun hc => ?_) (fun hc => ?_)) <;> rw [io_eq_l hn (by decide)] at hc
    · rw [b2i_t (by omega)] at k
      exact wp_eq (e200_7 ..) (wp_eq (e200_9 ..) (wp_gd (.inr rfl) (wp_ret k)))
    · rw [b2i_f (by omega)] at k
      exact wp_eq (e200_8 ..) (wp_eq (e200_9 ..) (wp_gd (.inl rfl) (wp_ret k)))
  refine wp_if (fun h3 => ?_) (fun h3 => ?_)
  · subst h3
    have e : fn_fits 3 n = (n = 8) := by unfold fn_fits; simp
    simp only [e] at k
    refine wp_eq (e200_10 ..) (wp_if (fun hc => ?_) (fun hc => ?_)) <;> rw [io_eq_l hn (by decide)] at hc
    · rw [b2i_t (by omega)] at k
      exact wp_eq (e200_11 ..) (wp_eq (e200_13 ..) (wp_gd (.inr rfl) (wp_ret k)))
    · rw [b2i_f (by omega)] at k
      exact wp_eq (e200_12 ..) (wp_eq (e200_13 ..) (wp_gd (.inl rfl) (wp_ret k)))
  refine wp_if (fun h4 => ?_) (fun h4 => ?_)
  · subst h4
    have e : fn_fits 4 n = (n = 6) := by unfold fn_fits; simp
    simp only [e] at k
    refine wp_eq (e200_14 ..) (wp_if (fun hc => ?_) (fun hc => ?_)) <;> rw [io_eq_l hn (by decide)] at hc
    · rw [b2i_t (by omega)] at k
      exact wp_eq (e200_15 ..) (wp_eq (e200_17 ..) (wp_gd (.inr rfl) (wp_ret k)))
    · rw [b2i_f (by omega)] at k
      exact wp_eq (e200_16 ..) (wp_eq (e200_17 ..) (wp_gd (.inl rfl) (wp_ret k)))
  have e : fn_fits kd n := ⟨fun h => absurd h h1, fun h => absurd h h2, fun h => absurd h h3, fun h => absurd h h4⟩
  rw [b2i_t e] at k
  exact wp_eq (e200_18 ..) (wp_ret k)
theorem xc_wrong {T σ : z_St} {A : w_A} (hX : w_X T σ A) (hP : vP A = none) {K : w_P} {w0 x0 w x : Int32} {l : List w_Q} (hm : x_msg σ (z_mk K w0 x0 l)) {d : Nat} {Q : z_St → Option z_V → Prop} (k : ∀ σ, w_X T σ A → x_msg σ (z_mk K w x l) → Q σ (some (.inl 1))) : wp (zD (d + 1) 201 [.inr (.inr (some (3, 0))), .inl w, .inl x] σ) Q := by
  refine wp_eq (c201 ..) (wp_eq (e201_0 ..) (wp_sw (wp_sw (wp_ret (k _ (xw3 (xw3 hX hP 12 0 w) hP 13 0 x) ?_)))))
  obtain ⟨h1, h2, h3, h4, h5, h6, h7, h8, h9, h10⟩ := hm
  exact ⟨h1, h2, h3, h4, h5, h6, rfl, rfl, h9, h10⟩
theorem xc_note {T σ : z_St} {A : w_A} (hX : w_X T σ A) (hP : vP A = none) {K : w_P} {w x code y z : Int32} {l : List w_Q} {fr n : Nat} (hm : x_msg σ (z_mk K w x l)) (hl : l.length < 80) (hy : y = Int32.ofNat fr) (hz : z = Int32.ofNat n) {d : Nat} {Q : z_St → Option z_V → Prop} (k : ∀ σ, w_X T σ A → x_msg σ (z_mk K w x (l ++ [(code, fr, n)])) → Q σ none) : wp (zD (d + 1) 203 [.inr (.inr (some (3, 0))), .inl code, .inl y, .inl z] σ) Q := by
  subst hy hz
  obtain ⟨h1, h2, h3, h4, h5, h6, h7, h8, h9, h10⟩ := hm
  have h9 : gI σ 3 11 0 = Int32.ofNat l.length := h9
  have hz : zin (gI σ 3 11 0) 80 := by rw [h9]; exact zin_io hl (by decide)
  refine wp_eq (c203 ..) (wp_eq (e203_0 ..) (wp_dr (rx_p3_8 hX) (wp_gd aty_76548624 (wp_gd (by rw [alen_76548624]; exact hz) (wp_sw ?_)))))
  dsimp only
  rw [h9, io_nat (by omega)]
  have hX := xwC hX hP l.length code
  refine wp_dr (rx_p3_9 hX) (wp_gd aty_77597200 (wp_gd ?_ (wp_sw ?_)))
  · rw [alen_77597200]; exact hz
  rw [show gI (wI σ 76548624 0 l.length code) 3 11 0 = Int32.ofNat l.length from h9, io_nat (by omega)]
  have hX := xwF hX hP l.length (Int32.ofNat fr)
  refine wp_dr (rx_p3_10 hX) (wp_gd aty_78645776 (wp_gd ?_ (wp_sw ?_)))
  · rw [alen_78645776]; exact hz
  rw [show gI (wI (wI σ 76548624 0 l.length code) 77597200 0 l.length (Int32.ofNat fr)) 3 11 0 = Int32.ofNat l.length from h9, io_nat (by omega)]
  have hX := xwS hX hP l.length (Int32.ofNat n)
  rw [show gI (wI (wI (wI σ 76548624 0 l.length code) 77597200 0 l.length (Int32.ofNat fr)) 78645776 0 l.length (Int32.ofNat n)) 3 11 0 = Int32.ofNat l.length from h9, io_add_l]
  have hX := xw3 hX hP 11 0 (Int32.ofNat (l.length + 1))
  refine wp_sw (wp_ret (k _ hX ⟨h1, h2, h3, h4, h5, h6, h7, h8, ?_, fun j hj => ?_⟩))
  · show Int32.ofNat (l.length + 1) = Int32.ofNat (l ++ [(code, fr, n)]).length
    rw [List.length_append]
    rfl
  · have hj : j < (l ++ [(code, fr, n)]).length := hj
    have hj2 : j < l.length + 1 := by rw [List.length_append] at hj; exact hj
    show gI (wI _ 3 11 0 _) 76548624 0 j = (l ++ [(code, fr, n)])[j].1 ∧ gI (wI _ 3 11 0 _) 77597200 0 j = Int32.ofNat (l ++ [(code, fr, n)])[j].2.1 ∧ gI (wI _ 3 11 0 _) 78645776 0 j = Int32.ofNat (l ++ [(code, fr, n)])[j].2.2
    simp only [gI_wI, ev_rd, ev_st, aEl, z_w, z_cat, Nat.reduceMod, Nat.reduceDiv, Nat.reduceLeDiff, Nat.reduceLT, Nat.reduceAdd, Nat.reduceMul, Nat.reduceSub, Nat.reduceEqDiff, Int32.reduceLT, Int32.reduceLE, Int32.reduceAdd, Int32.reduceSub, Int32.reduceMul, true_and, and_true, false_and, and_false, true_or, or_true, false_or, or_false, not_true_eq_false, not_false_eq_true, if_true, if_false, reduceIte, ne_eq, and_self, or_self, reduceCtorEq, Option.some.injEq, Prod.mk.injEq]
    by_cases e : j = l.length
    · subst e
      rw [List.getElem_append_right (Nat.le_refl _)]
      simp
    · have e2 : j < l.length := by omega
      rw [List.getElem_append_left e2]
      simp only [e, ev_rd, ev_st, aEl, z_w, z_cat, Nat.reduceMod, Nat.reduceDiv, Nat.reduceLeDiff, Nat.reduceLT, Nat.reduceAdd, Nat.reduceMul, Nat.reduceSub, Nat.reduceEqDiff, Int32.reduceLT, Int32.reduceLE, Int32.reduceAdd, Int32.reduceSub, Int32.reduceMul, true_and, and_true, false_and, and_false, true_or, or_true, false_or, or_false, not_true_eq_false, not_false_eq_true, if_true, if_false, reduceIte, ne_eq, and_self, or_self, reduceCtorEq, Option.some.injEq, Prod.mk.injEq]
      exact h10 j e2
theorem walk_s (r : Nat → Int32) (c f k e d : Nat) (acc : List w_Q) : fn_walk r c (f + 1) k e d acc = if e ≤ k then ((0, 0), acc)
    else if e - k < 8 then ((5014, 0), acc)
    else if nl r c k < fn_hs r c k ∨ e - k < nl r c k then ((5014, n4 r c k), acc)
    else if u8 r c (k + 4) &&& 31 ≠ 0 then ((3009, n4 r c k), acc)
    else if fn_kd r c k = 0 then
      (if u8 r c (k + 4) &&& 64 ≠ 0 then ((5001, n4 r c k), acc) else fn_walk r c f (k + (nl r c k + 3) / 4 * 4) e d acc)
    else if ¬ fn_fits (fn_kd r c k) (nl r c k - 8) ∨ (fn_kd r c k = 5 ∧ d = 3) then ((5014, n4 r c k), acc)
    else if fn_kd r c k = 5 ∧ (fn_walk r c f (k + 8) (k + nl r c k) (d + 1) []).1.1 ≠ 0 then ((fn_walk r c f (k + 8) (k + nl r c k) (d + 1) []).1, acc)
    else fn_walk r c f (k + (nl r c k + 3) / 4 * 4) e d (if d = 0 then acc ++ [(n4 r c k, k + 8, nl r c k - 8)] else acc) := rfl
theorem walk_deep (r : Nat → Int32) (c : Nat) : ∀ (f k e d : Nat) (acc : List w_Q), 0 < d → fn_walk r c f k e d acc = ((fn_walk r c f k e d []).1, acc)
  | 0, _, _, _, _, _ => rfl
  | f + 1, k, e, d, acc, hd => by
    have ih := fun k => walk_deep r c f k e d acc hd
    rw [walk_s, walk_s]
    by_cases h1 : e ≤ k
    · rw [if_pos h1, if_pos h1]
    rw [if_neg h1, if_neg h1]
    by_cases h2 : e - k < 8
    · rw [if_pos h2, if_pos h2]
    rw [if_neg h2, if_neg h2]
    by_cases h3 : nl r c k < fn_hs r c k ∨ e - k < nl r c k
    · rw [if_pos h3, if_pos h3]
    rw [if_neg h3, if_neg h3]
    by_cases h4 : u8 r c (k + 4) &&& 31 ≠ 0
    · rw [if_pos h4, if_pos h4]
    rw [if_neg h4, if_neg h4]
    by_cases h5 : fn_kd r c k = 0
    · rw [if_pos h5, if_pos h5]
      by_cases h6 : u8 r c (k + 4) &&& 64 ≠ 0
      · rw [if_pos h6, if_pos h6]
      · rw [if_neg h6, if_neg h6]
        exact ih _
    rw [if_neg h5, if_neg h5]
    by_cases h7 : ¬ fn_fits (fn_kd r c k) (nl r c k - 8) ∨ (fn_kd r c k = 5 ∧ d = 3)
    · rw [if_pos h7, if_pos h7]
    rw [if_neg h7, if_neg h7]
    by_cases h8 : fn_kd r c k = 5 ∧ (fn_walk r c f (k + 8) (k + nl r c k) (d + 1) []).1.1 ≠ 0
    · rw [if_pos h8, if_pos h8]
    rw [if_neg h8, if_neg h8, if_neg (show ¬ d = 0 by omega), if_neg (show ¬ d = 0 by omega)]
    exact ih _
theorem hs_8 {r : Nat → Int32} {c k : Nat} (h : ¬ fn_kd r c k = 0) : fn_hs r c k = 8 ∧ fn_kd r c k = fn_kind (n4 r c k) := by
  unfold fn_kd at h ⊢
  unfold fn_hs
  by_cases e : u8 r c (k + 4) &&& 128 = 0
  · rw [if_pos e, if_pos e]; exact ⟨rfl, rfl⟩
  · rw [if_neg e] at h; exact absurd rfl h
theorem hs_ge (r : Nat → Int32) (c k : Nat) : 8 ≤ fn_hs r c k ∧ fn_hs r c k ≤ 12 := by
  unfold fn_hs
  split <;> exact ⟨by decide, by decide⟩
theorem xl_walk {T : z_St} {A : w_A} {K : w_P} {c : Nat} (hK : pC K = c) (hc1 : 1 ≤ c) (hc : c ≤ 8) (hP : vP A = none) : ∀ (f D g k e dep : Nat) (acc : List w_Q) (σ : z_St) (Q : z_St → Option z_V → Prop), g ≤ D → g + dep = 3 → e ≤ k + f → e ≤ 600 → 20 ≤ k ∧ k ≤ 1000 → (dep = 0 → 8 * acc.length + 20 ≤ k) → w_X T σ A → x_msg σ (z_mk K 0 0 acc) →
    (∀ σ, (fn_walk (vI A 64) c f k e dep acc).1.1 = 0 → w_X T σ A → x_msg σ (z_mk K 0 0 (fn_walk (vI A 64) c f k e dep acc).2) → Q σ (some (.inl 0))) →
    (∀ σ, ¬ (fn_walk (vI A 64) c f k e dep acc).1.1 = 0 → w_X T σ A → x_msg σ (z_mk K (fn_walk (vI A 64) c f k e dep acc).1.1 (fn_walk (vI A 64) c f k e dep acc).1.2 (fn_walk (vI A 64) c f k e dep acc).2) → Q σ (some (.inl 1))) →
    wp (E xP202 (zD (D + 2)) 1 [some (.inr (.inr (some (3, 0)))), none, some (.inl (Int32.ofNat e)), some (.inl (Int32.ofNat dep)), some (.inl (Int32.ofNat k)), none, none, none, none, none] [] σ) Q
  | 0, D, g, k, e, dep, acc, σ, Q, hg, hd, he, h6, h20, hac, hX, hm, k0, k1 => by
    refine wp_eq (e202_1 ..) (wp_if (fun h => ?_) (fun h => ?_)) <;> rw [io_le (by omega) (by omega)] at h
    · exact wp_eq (e202_30 ..) (wp_ret (k0 _ rfl hX hm))
    · omega
  | f + 1, D, g, k, e, dep, acc, σ, Q, hg, hd, he, h6, h20, hac, hX, hm, k0, k1 => by
    have hr : ∀ j, j < 600 → gI σ 73419537 c j = vI A 64 (600 * c + j) := fun j hj => rx_I hX c hc1 hc j hj
    generalize hrr : vI A 64 = r at *
    have hkwr : ∀ (w x : Int32), fn_walk r c (f + 1) k e dep acc = ((w, x), acc) → ¬ w = 0 → ∀ σ, w_X T σ A → x_msg σ (z_mk K 0 0 acc) → wp (zD (D + 2) 201 [.inr (.inr (some (3, 0))), .inl w, .inl x] σ) (fun σ r => ∃ v, r = some v ∧ wp (asI v fun i4 => gd (i4 = 0 ∨ i4 = 1) (some (σ, some (.inl i4)))) Q) := by
      intro w x hR hw σ hX hm
      refine xc_wrong (d := D + 1) hX hP hm fun σ hX hm => ⟨_, rfl, wp_asI0 (wp_gd (.inr rfl) (wp_ret (k1 σ ?_ hX ?_)))⟩
      · rw [hR]; exact hw
      · rw [hR]; exact hm
    have hpt : gR σ 3 1 0 = some (73419537, c) := by rw [← hK]; exact hm.1
    refine wp_eq (e202_1 ..) (wp_if (fun h => ?_) (fun h => ?_)) <;> rw [io_le (by omega) (by omega)] at h
    · have hR : fn_walk r c (f + 1) k e dep acc = ((0, 0), acc) := by rw [walk_s, if_pos h]
      rw [hR] at k0
      exact wp_eq (e202_30 ..) (wp_ret (k0 _ rfl hX hm))
    have h1 := h
    refine wp_eq (e202_2 ..) ?_
    rw [io_sub (show k ≤ e by omega)]
    refine wp_if (fun h => ?_) (fun h => ?_) <;> rw [io_lle (by omega) (by decide)] at h
    case _ =>
      have h2 : ¬ e - k < 8 := by
        have : 8 ≤ e - k := h
        omega
      have hnl := nl_lt r c k
      have hhs := hs_ge r c k
      refine wp_eq (e202_4 ..) (wp_dr rfl (wp_gd rfl (wp_cr (xc_get (d := D + 1) (a := k) (n := 4) hX hc1 hc hpt (by omega) rfl rfl ⟨_, rfl, wp_asJ0 ?_⟩))))
      refine wp_dr rfl (wp_gd rfl (wp_dr hpt (wp_gd aty_73419537 (wp_gd ?_ (wp_dr rfl (wp_gd rfl (wp_cr (xc_get (d := D + 1) (a := k + 5) (n := 3) hX hc1 hc hpt (by omega) (io_add_l k 5) rfl ⟨_, rfl, wp_asJ0 ?_⟩))))))))
      · rw [alen_73419537, io_add_l]; exact zin_io (by omega) (by decide)
      dsimp only
      rw [hrr, gw4, gw3, n3_nl, io_add_l, io_nat (by omega), hr (k + 4) (by omega)]
      have hu : vI A 64 (600 * c + (k + 4)) &&& 255 = u8 r c (k + 4) := by rw [hrr]; rfl
      rw [hrr] at hu
      have key29 : ∀ (acc' : List w_Q) (σ : z_St), (dep = 0 → 8 * acc'.length + 20 ≤ k + 8) → ¬ e - k < nl r c k → 8 ≤ nl r c k → fn_walk r c (f + 1) k e dep acc = fn_walk r c f (k + (nl r c k + 3) / 4 * 4) e dep acc' → w_X T σ A → x_msg σ (z_mk K 0 0 acc') → wp (E xP202 (zD (D + 2)) 29 [some (.inr (.inr (some (3, 0)))), none, some (.inl (Int32.ofNat e)), some (.inl (Int32.ofNat dep)), some (.inl (Int32.ofNat k)), none, none, some (.inl (Int32.ofNat (nl r c k))), none, none] [] σ) Q := by
        intro acc' σ ha hn1 hn2 hR hX hm
        refine wp_eq (e202_29 ..) ?_
        rw [io_add_l, io_div_l (by omega) (by decide), io_mul_l, io_add]
        subst hrr
        refine xl_walk hK hc1 hc hP f D g (k + (nl (vI A 64) c k + 3) / 4 * 4) e dep acc' σ Q hg hd (by omega) h6 (by omega) (fun e => by have := ha e; omega) hX hm ?_ ?_
        · rw [hR] at k0; exact k0
        · rw [hR] at k1; exact k1
      have key18 : ∀ σ, ¬ fn_kd r c k = 0 → ¬ e - k < nl r c k → 8 ≤ nl r c k → ¬ (u8 r c (k + 4) &&& 31 ≠ 0) → w_X T σ A → x_msg σ (z_mk K 0 0 acc) → wp (E xP202 (zD (D + 2)) 18 [some (.inr (.inr (some (3, 0)))), none, some (.inl (Int32.ofNat e)), some (.inl (Int32.ofNat dep)), some (.inl (Int32.ofNat k)), some (.inl (n4 r c k)), none, some (.inl (Int32.ofNat (nl r c k))), some (.inl (Int32.ofNat 8)), some (.inl (fn_kd r c k))] [] σ) Q := by
        intro σ hk hn1 hn2 h31 hX hm
        obtain ⟨hs8, hkk⟩ := hs_8 hk
        have base : fn_walk r c (f + 1) k e dep acc = if ¬ fn_fits (fn_kd r c k) (nl r c k - 8) ∨ (fn_kd r c k = 5 ∧ dep = 3) then ((5014, n4 r c k), acc)
            else if fn_kd r c k = 5 ∧ (fn_walk r c f (k + 8) (k + nl r c k) (dep + 1) []).1.1 ≠ 0 then ((fn_walk r c f (k + 8) (k + nl r c k) (dep + 1) []).1, acc)
            else fn_walk r c f (k + (nl r c k + 3) / 4 * 4) e dep (if dep = 0 then acc ++ [(n4 r c k, k + 8, nl r c k - 8)] else acc) := by
          rw [walk_s, if_neg h1, if_neg h2, if_neg (by omega), if_neg h31, if_neg hk]
        have key26 : ∀ σ, fn_fits (fn_kd r c k) (nl r c k - 8) → ¬ (fn_kd r c k = 5 ∧ dep = 3) → ¬ (fn_kd r c k = 5 ∧ (fn_walk r c f (k + 8) (k + nl r c k) (dep + 1) []).1.1 ≠ 0) → w_X T σ A → x_msg σ (z_mk K 0 0 acc) → wp (E xP202 (zD (D + 2)) 26 [some (.inr (.inr (some (3, 0)))), none, some (.inl (Int32.ofNat e)), some (.inl (Int32.ofNat dep)), some (.inl (Int32.ofNat k)), some (.inl (n4 r c k)), none, some (.inl (Int32.ofNat (nl r c k))), some (.inl (Int32.ofNat 8)), some (.inl (fn_kd r c k))] [] σ) Q := by
          intro σ f1 f2 f3 hX hm
          have hR := base
          rw [if_neg (fun h => h.elim (fun h => h f1) f2), if_neg f3] at hR
          refine wp_eq (e202_26 ..) (wp_if (fun h => absurd h hk) (fun _ => ?_))
          refine wp_eq (e202_27 ..) (wp_if (fun h => ?_) (fun h => ?_)) <;> rw [io_eq_l (by omega) (by decide)] at h
          · have h : dep = 0 := h
            rw [if_pos h] at hR
            refine wp_eq (e202_28 ..) (wp_dr rfl (wp_gd rfl (wp_cv (xc_note (d := D + 1) (fr := k + 8) (n := nl r c k - 8) hX hP hm ?_ (io_add k 8) (io_sub hn2) fun σ hX hm => ⟨rfl, key29 _ σ (fun _ => ?_) hn1 hn2 hR hX hm⟩))))
            · have := hac h; omega
            · have := hac h
              rw [List.length_append]
              show 8 * (acc.length + 1) + 20 ≤ k + 8
              omega
          · have h : ¬ dep = 0 := h
            rw [if_neg h] at hR
            exact key29 _ σ (fun e => absurd e h) hn1 hn2 hR hX hm
        have key23 : ∀ σ, fn_fits (fn_kd r c k) (nl r c k - 8) → ¬ (fn_kd r c k = 5 ∧ dep = 3) → w_X T σ A → x_msg σ (z_mk K 0 0 acc) → wp (E xP202 (zD (D + 2)) 23 [some (.inr (.inr (some (3, 0)))), none, some (.inl (Int32.ofNat e)), some (.inl (Int32.ofNat dep)), some (.inl (Int32.ofNat k)), some (.inl (n4 r c k)), none, some (.inl (Int32.ofNat (nl r c k))), some (.inl (Int32.ofNat 8)), some (.inl (fn_kd r c k))] [] σ) Q := by
          intro σ f1 f2 hX hm
          refine wp_eq (e202_23 ..) (wp_if (fun h => ?_) (fun h => ?_))
          · have hd3 : ¬ dep = 3 := fun e => f2 ⟨h, e⟩
            obtain ⟨D', rfl⟩ : ∃ D', D = D' + 1 := ⟨D - 1, by omega⟩
            obtain ⟨g', rfl⟩ : ∃ g', g = g' + 1 := ⟨g - 1, by omega⟩
            refine wp_eq (e202_24 ..) (wp_cr (wp_eq (c202 ..) (wp_eq (e202_0 ..) ?_)))
            rw [io_add, io_add, io_add_l]
            have hdeep := walk_deep r c f (k + 8) (k + nl r c k) (dep + 1) acc (by omega)
            subst hrr
            refine xl_walk hK hc1 hc hP f D' g' (k + 8) (k + nl (vI A 64) c k) (dep + 1) acc σ _ (by omega) (by omega) (by omega) (by omega) (by omega) (fun e => absurd e (by omega)) hX hm ?_ ?_
            · intro σ hw hX hm
              rw [hdeep] at hw hm
              refine ⟨_, rfl, wp_asI0 (wp_if (fun _ => key26 σ f1 f2 (fun q => q.2 hw) hX hm) (fun q => absurd rfl q))⟩
            · intro σ hw hX hm
              rw [hdeep] at hw hm
              refine ⟨_, rfl, wp_asI0 (wp_if (fun q => absurd q (by decide)) (fun _ => wp_eq (e202_25 ..) (wp_ret (k1 σ ?_ hX ?_))))⟩ <;> (rw [base, if_neg (fun q => q.elim (fun q => q f1) f2), if_pos ⟨h, hw⟩]; assumption)
          · exact key26 σ f1 f2 (fun q => h q.1) hX hm
        refine wp_eq (e202_18 ..) (wp_if (fun q => absurd q hk) (fun _ => ?_))
        refine wp_eq (e202_19 ..) (wp_cr (xc_fits (d := D + 1) (n := nl r c k - 8) (io_sub hn2) (by omega) ⟨_, rfl, ?_⟩))
        refine wp_if (fun q => ?_) (fun q => ?_) <;> rw [b2i_0] at q
        · exact wp_eq (e202_22 ..) (wp_dr rfl (wp_gd rfl (wp_cr (hkwr _ _ (by rw [base, if_pos (.inl q)]) (by decide) σ hX hm))))
        · have f1 : fn_fits (fn_kd r c k) (nl r c k - 8) := Classical.not_not.mp q
          refine wp_eq (e202_20 ..) (wp_if (fun h5 => ?_) (fun h5 => ?_))
          · refine wp_eq (e202_21 ..) (wp_if (fun h3 => ?_) (fun h3 => ?_)) <;> rw [io_eq_l (by omega) (by decide)] at h3
            · exact wp_eq (e202_22 ..) (wp_dr rfl (wp_gd rfl (wp_cr (hkwr _ _ (by rw [base, if_pos (.inr ⟨h5, h3⟩)]) (by decide) σ hX hm))))
            · exact key23 σ f1 (fun q => h3 q.2) hX hm
          · exact key23 σ f1 (fun q => h5 q.1) hX hm
      have key7 : ∀ (x8 : Nat), x8 = fn_hs r c k → wp (E xP202 (zD (D + 2)) 7 [some (.inr (.inr (some (3, 0)))), none, some (.inl (Int32.ofNat e)), some (.inl (Int32.ofNat dep)), some (.inl (Int32.ofNat k)), some (.inl (n4 r c k)), some (.inl (u8 r c (k + 4))), some (.inl (Int32.ofNat (nl r c k))), none, none] [.inl (Int32.ofNat x8)] σ) Q := by
        rintro x8 rfl
        refine wp_eq (e202_7 ..) (wp_if (fun h => ?_) (fun h => ?_)) <;> rw [io_lt (by omega) (by omega)] at h
        · exact wp_eq (e202_9 ..) (wp_dr rfl (wp_gd rfl (wp_cr (hkwr _ _ (by rw [walk_s, if_neg h1, if_neg h2, if_pos (.inl h)]) (by decide) σ hX hm))))
        refine wp_eq (e202_8 ..) ?_
        rw [io_sub (show k ≤ e by omega)]
        refine wp_if (fun hn1 => ?_) (fun hn1 => ?_) <;> rw [io_le (by omega) (by omega)] at hn1
        case _ =>
          have h3 : ¬ (nl r c k < fn_hs r c k ∨ e - k < nl r c k) := by omega
          refine wp_eq (e202_10 ..) (wp_if (fun h31 => ?_) (fun h31 => ?_))
          · have h4 : ¬ (u8 r c (k + 4) &&& 31 ≠ 0) := fun q => q h31
            have key15 : ∀ kd, kd = fn_kd r c k → wp (E xP202 (zD (D + 2)) 15 [some (.inr (.inr (some (3, 0)))), none, some (.inl (Int32.ofNat e)), some (.inl (Int32.ofNat dep)), some (.inl (Int32.ofNat k)), some (.inl (n4 r c k)), some (.inl (u8 r c (k + 4))), some (.inl (Int32.ofNat (nl r c k))), some (.inl (Int32.ofNat (fn_hs r c k))), none] [.inl kd] σ) Q := by
              rintro kd rfl
              refine wp_eq (e202_15 ..) (wp_if (fun hk => ?_) (fun hk => ?_))
              · have b0 : fn_walk r c (f + 1) k e dep acc = (if u8 r c (k + 4) &&& 64 ≠ 0 then ((5001, n4 r c k), acc) else fn_walk r c f (k + (nl r c k + 3) / 4 * 4) e dep acc) := by rw [walk_s, if_neg h1, if_neg h2, if_neg h3, if_neg h4, if_pos hk]
                refine wp_eq (e202_16 ..) (wp_if (fun h64 => ?_) (fun h64 => ?_))
                · rw [if_neg (fun q => q h64)] at b0
                  refine wp_eq (e202_18 ..) (wp_if (fun _ => ?_) (fun q => absurd hk q))
                  refine wp_eq (e202_20 ..) (wp_if (fun q => absurd (hk.symm.trans q) (by decide)) (fun _ => ?_))
                  refine wp_eq (e202_23 ..) (wp_if (fun q => absurd (hk.symm.trans q) (by decide)) (fun _ => ?_))
                  refine wp_eq (e202_26 ..) (wp_if (fun _ => ?_) (fun q => absurd hk q))
                  exact key29 _ σ (fun e => by have := hac e; omega) (by omega) (by omega) b0 hX hm
                · exact wp_eq (e202_17 ..) (wp_dr rfl (wp_gd rfl (wp_cr (hkwr _ _ (by rw [b0, if_pos h64]) (by decide) σ hX hm))))
              · have := hs_8 hk
                rw [this.1]
                exact key18 σ hk (by omega) (by omega) h4 hX hm
            refine wp_eq (e202_12 ..) (wp_if (fun h12 => ?_) (fun h12 => ?_)) <;> rw [io_eq_l (by omega) (by decide)] at h12
            · refine wp_eq (e202_13 ..) (key15 _ ?_)
              unfold fn_kd
              unfold fn_hs at h12
              split at h12
              · exact absurd h12 (by decide)
              · rename_i q; rw [if_neg q]
            · refine wp_eq (e202_14 ..) (wp_cr (xc_kind (d := D + 1) ⟨_, rfl, key15 _ ?_⟩))
              unfold fn_kd
              unfold fn_hs at h12
              split at h12
              · rename_i q; rw [if_pos q]
              · exact absurd rfl h12
          · exact wp_eq (e202_11 ..) (wp_dr rfl (wp_gd rfl (wp_cr (hkwr _ _ (by rw [walk_s, if_neg h1, if_neg h2, if_neg h3, if_pos h31]) (by decide) σ hX hm))))
        case _ =>
          exact wp_eq (e202_9 ..) (wp_dr rfl (wp_gd rfl (wp_cr (hkwr _ _ (by rw [walk_s, if_neg h1, if_neg h2, if_pos (.inr (by omega))]) (by decide) σ hX hm))))
      rw [hu]
      refine wp_if (fun h => ?_) (fun h => ?_)
      · refine wp_eq (e202_6 ..) (key7 8 ?_)
        unfold fn_hs
        rw [if_pos h]
      · refine wp_eq (e202_5 ..) (key7 12 ?_)
        unfold fn_hs
        rw [if_neg h]
    case _ =>
      have h2 : e - k < 8 := by
        have : ¬ 8 ≤ e - k := h
        omega
      exact wp_eq (e202_3 ..) (wp_dr rfl (wp_gd rfl (wp_cr (hkwr _ _ (by rw [walk_s, if_neg h1, if_pos h2]) (by decide) σ hX hm))))
theorem xc_walk {T σ : z_St} {A : w_A} {K : w_P} {c n : Nat} (hK : pC K = c) (hc1 : 1 ≤ c) (hc : c ≤ 8) (hP : vP A = none) (hn : n ≤ 600) (hX : w_X T σ A) (hm : x_msg σ (z_mk K 0 0 [])) {d : Nat} {x : Int32} (hx : x = Int32.ofNat n) {Q : z_St → Option z_V → Prop}
    (k0 : ∀ σ, (fn_walk (vI A 64) c 601 20 n 0 []).1.1 = 0 → w_X T σ A → x_msg σ (z_mk K 0 0 (fn_walk (vI A 64) c 601 20 n 0 []).2) → Q σ (some (.inl 0)))
    (k1 : ∀ σ, ¬ (fn_walk (vI A 64) c 601 20 n 0 []).1.1 = 0 → w_X T σ A → x_msg σ (z_mk K (fn_walk (vI A 64) c 601 20 n 0 []).1.1 (fn_walk (vI A 64) c 601 20 n 0 []).1.2 (fn_walk (vI A 64) c 601 20 n 0 []).2) → Q σ (some (.inl 1))) : wp (zD (d + 8) 202 [.inr (.inr (some (3, 0))), .inl 20, .inl x, .inl 0] σ) Q := by
  subst hx
  exact wp_eq (c202 ..) (wp_eq (e202_0 ..) (xl_walk hK hc1 hc hP 601 (d + 5) 3 20 n 0 [] σ Q (by omega) rfl (by omega) hn (by omega) (fun _ => Nat.le_refl 20) hX hm k0 k1))
