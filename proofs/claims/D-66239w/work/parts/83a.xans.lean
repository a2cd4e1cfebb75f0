/-! PART 83a (src 83a.xans.src): the component's answers -/
set_option maxHeartbeats 400000
theorem rx_msg {T σ : z_St} {A : w_A} (h : w_X T σ A) {P : w_P} (hP : vP A = some P) : x_msg σ P := rx_M h P hP
theorem xc_octs {T σ : z_St} {A : w_A} {l : List Int32} (hX : w_X T σ (fn_page A l)) {d : Nat} {code : Int32} {c a n : Nat} (hc1 : 1 ≤ c) (hc : c ≤ 8) (ha : a + n ≤ 600) (hn : n ≤ 40) (h4 : l.length % 4 = 0) (hl : l.length + 51 ≤ 700) {Q : z_St → Option z_V → Prop} (k : ∀ σ, w_X T σ (fn_page A (l ++ fn_txt code (fn_text (vI A 64) c a n))) → Q σ none) : wp (zD (d + 3) 225 [.inr (.inr (some (2, 0))), .inl code, .inr (.inr (some (73419537, c))), .inl (Int32.ofNat a), .inl (Int32.ofNat n)] σ) Q := by
  have hm := text_len (vI A 64) c a n
  generalize hmm : fn_text (vI A 64) c a n = m at *
  refine wp_eq (c225 ..) (wp_eq (e225_0 ..) ?_)
  refine cvX (fun Q' k => xc_attr hX n rfl (by omega) k) fun σ hX => ?_
  have hp := rx_PG hX
  rw [List.length_append, fn_attr_len] at hp
  refine wp_dr (rx_p2_0 hX) (wp_dr rfl (wp_gd ⟨aty_73419537, aty_79714193⟩ ?_))
  rw [hp]
  refine wp_gd ?_ (wp_sw (wp_sw ?_))
  · have a1 := alen_73419537
    have a2 := alen_79714193
    refine ⟨io_neg (by omega), io_neg (by omega), io_neg (by omega), ?_, ?_⟩
    · rw [io_nat (by omega), io_nat (by omega)]; show a + n ≤ aLen 73419537; rw [a1]; exact ha
    · rw [io_nat (by omega), io_nat (by omega)]; show l.length + 8 + n ≤ aLen 79714193; rw [a2]; omega
  rw [io_nat (show a < 2147483648 by omega), io_nat (show n < 2147483648 by omega), io_nat (show l.length + 8 < 2147483648 by omega)]
  rw [show gI (rI σ 79714193 0 (va_cpy (gI σ 73419537 c) (gI σ 79714193 0) a (l.length + 8) n)) 2 1 0 = Int32.ofNat (l.length + 8) from hp, io_add]
  have hX2 := x_PGc hX (f := gI σ 73419537 c) (sp := a) m (fun j hj => by
    have e : m[j] = vI A 64 (600 * c + (a + j)) := by
      subst hmm
      exact text_get hj
    rw [e]
    exact rx_I hX c hc1 hc (a + j) (by omega))
  rw [List.length_append, fn_attr_len, hm] at hX2
  refine cvX (fun Q' k => xc_pad hX2 (by rw [List.length_append, List.length_append, fn_attr_len]; omega) k) fun σ hX => ?_
  refine wp_ret (k σ ?_)
  have e : (l ++ fn_attr code n ++ m ++ fn_pad (l ++ fn_attr code n ++ m).length) = l ++ fn_txt code m := by
    unfold fn_txt
    rw [List.length_append, List.length_append, fn_attr_len, hm]
    have : fn_pad (l.length + 8 + n) = fn_pad n := by
      unfold fn_pad
      rw [show (l.length + 8 + n) % 4 = n % 4 by omega]
    rw [this]
    simp only [List.append_assoc]
  rw [← e]
  exact hX
theorem d1000 (x : Int32) : (x / 1000 = 3) = (3000 ≤ x ∧ x ≤ 3999) := by
  have h1 := Int32.toInt_lt x
  have h2 := Int32.le_toInt x
  have e : (x / 1000).toInt = x.toInt.tdiv 1000 := by
    rw [Int32.toInt_div, show (1000 : Int32).toInt = 1000 from rfl]
    by_cases h0 : 0 ≤ x.toInt
    · rw [Int.tdiv_eq_ediv_of_nonneg h0]
      exact Int.bmod_eq_of_le (by omega) (by omega)
    · have : x.toInt.tdiv 1000 = - ((- x.toInt) / 1000) := by
        rw [← Int.tdiv_eq_ediv_of_nonneg (by omega), Int.neg_tdiv, Int.neg_neg]
      rw [this]
      exact Int.bmod_eq_of_le (by omega) (by omega)
  rw [← Int32.toInt_inj, e, Int32.le_iff_toInt_le, Int32.le_iff_toInt_le, show (3 : Int32).toInt = 3 from rfl, show (3000 : Int32).toInt = 3000 from rfl, show (3999 : Int32).toInt = 3999 from rfl]
  by_cases h0 : 0 ≤ x.toInt
  · rw [Int.tdiv_eq_ediv_of_nonneg h0]
    exact propext ⟨fun h => by omega, fun h => by omega⟩
  · have : x.toInt.tdiv 1000 = - ((- x.toInt) / 1000) := by
      rw [← Int.tdiv_eq_ediv_of_nonneg (by omega), Int.neg_tdiv, Int.neg_neg]
    rw [this]
    exact propext ⟨fun h => by omega, fun h => by omega⟩
theorem fn_ans_len {A : w_A} {P : w_P} {res : Int32} (hr : z_rP (vI A 64) P) (hH : (vL A 1 0).length ≤ 40) : 20 ≤ (fn_ans A P res).length ∧ (fn_ans A P res).length ≤ 142 ∧ (fn_ans A P res).length % 4 = 0 := by
  unfold fn_ans
  rw [List.length_append, List.length_append, List.length_append, fn_hd_len, fn_num_len, fn_me_len]
  split
  · rw [fn_txt_len]
    have : (fn_taken (vI A 64) P 263).length ≤ 40 := by
      unfold fn_taken
      split
      · rename_i q hf
        rw [text_len]
        exact (rP_txt hr (by decide) q hf).2.2
      · exact Nat.zero_le _
    omega
  · simp only [List.length_nil]
    omega
theorem fn_ans_by {A : w_A} {P : w_P} {res : Int32} (hr : z_rP (vI A 64) P) (hb : ∀ k, nb (vI A 64 k) = vI A 64 k) (hH : z_by (vL A 1 0)) : z_by (fn_ans A P res) := by
  unfold fn_ans
  refine z_by_app (z_by_app (z_by_app (fn_hd_by _ _ _ _ _) ?_) (fn_num_by _ _)) (fn_me_by hH)
  split
  · exact fn_txt_by _ (rP_taken hb hr (by decide)).2
  · exact z_by_nil
theorem xc_answer {T σ : z_St} {A : w_A} (hX : w_X T σ A) {P : w_P} (hP : vP A = some P) (hr : z_rP (vI A 64) P) (hH : (vL A 1 0).length ≤ 40) {d : Nat} {res : Int32} {Q : z_St → Option z_V → Prop} (k : ∀ σ, w_X T σ (fn_page A (fn_ans A P res)) → Q σ none) : wp (zD (d + 5) 16 [.inr (.inr (some (0, 0))), .inr (.inr (some (3, 0))), .inl res] σ) Q := by
  obtain ⟨hc1, hc8⟩ := rP_C hr
  have hln := rP_len hr
  have h0 := rx_msg hX hP
  have hlen := fn_ans_len (res := res) hr hH
  refine wp_eq (c16 ..) (wp_eq (e16_0 ..) (wp_dr rfl (wp_gd rfl (wp_dr rfl (wp_gd rfl (wp_dr rfl (wp_gd rfl (wp_dr rfl (wp_gd rfl (wp_dr rfl (wp_gd rfl ?_)))))))))))
  dsimp only
  rw [h0.2.1, h0.2.2.1, h0.2.2.2.1, h0.2.2.2.2.1, h0.2.2.2.2.2.1]
  refine wp_cv (xc_answerHead hX fun σ hX => ⟨rfl, wp_dr rfl (wp_gd rfl ?_)⟩)
  simp only [d1000] at hX
  let l0 := fn_hd ((pF P &&& 64) ||| (if 3000 ≤ res ∧ res ≤ 3999 then 32 else 0)) (pM P) (pA_ P) (pH P) (pE P)
  have hX : w_X T σ (fn_page A l0) := hX
  have hl0 : l0.length = 20 := rfl
  have hm := rx_msg hX (P := P) hP
  have fin : ∀ σ l, w_X T σ (fn_page A l) → l.length % 4 = 0 → l.length ≤ 71 → l ++ fn_num 268 res ++ fn_me A = fn_ans A P res → wp (E xP16 (zD (d + 4)) 5 [some (.inr (.inr (some (0, 0)))), none, some (.inl res), none] [] σ) Q := by
    intro σ l hX hl4 hl e
    refine wp_eq (e16_5 ..) (wp_dr (rx_p0_4 hX) (wp_gd rfl ?_))
    refine cvX (fun Q' k => xc_num hX (by omega) k) fun σ hX => ?_
    rw [Int32.toInt32_toInt64] at hX
    refine cvX (fun Q' k => xc_origin hX (show (vL A 1 0).length ≤ 40 from hH) (by rw [List.length_append, fn_num_len]; omega) (by rw [List.length_append, fn_num_len]; omega) k) fun σ hX => ?_
    rw [e] at hX
    exact wp_ret (k σ hX)
  have ea : fn_ans A P res = l0 ++ (if pM P = 272 ∧ (fn_find (pN P) 263).isSome = true then fn_txt 263 (fn_taken (vI A 64) P 263) else []) ++ fn_num 268 res ++ fn_me A := rfl
  rw [hm.2.2.1]
  refine wp_if (fun h272 => ?_) (fun h272 => ?_)
  · refine wp_eq (e16_1 ..) (wp_dr rfl (wp_gd rfl (wp_cr (xc_find hX hm (by omega) (fun hf => ⟨_, rfl, ?_⟩) (fun j hj hf => ⟨_, rfl, ?_⟩)))))
    · refine wp_eq (e16_3 ..) (wp_if (fun _ => fin σ l0 hX (by omega) (by omega) ?_) (fun q => absurd (by decide) q))
      rw [ea, if_neg (fun q => by have := q.2; rw [hf] at this; exact absurd this (by decide)), List.append_nil]
    · refine wp_eq (e16_3 ..) (wp_if (fun q => absurd q (io_neg (by omega))) (fun _ => ?_))
      have h10 := hm.2.2.2.2.2.2.2.2.2 j hj
      have hq := rP_txt hr (by decide) _ hf
      refine wp_eq (e16_4 ..) (wp_dr rfl (wp_gd rfl (wp_dr rfl (wp_gd rfl (wp_dr (rx_p3_9 hX) (wp_gd aty_77597200 (wp_gd ?_ (wp_dr rfl (wp_gd rfl (wp_dr (rx_p3_10 hX) (wp_gd aty_78645776 (wp_gd ?_ (wp_dr (rx_p0_4 hX) (wp_gd rfl ?_))))))))))))))
      · rw [alen_77597200]; exact zin_io (by omega) (by decide)
      · rw [alen_78645776]; exact zin_io (by omega) (by decide)
      dsimp only
      rw [io_nat (by omega), h10.2.1, h10.2.2, hm.1]
      refine cvX (fun Q' k => xc_octs hX hc1 hc8 hq.1 hq.2.2 (by omega) (by omega) k) fun σ hX => ?_
      refine fin σ _ hX ?_ ?_ ?_
      · rw [List.length_append, fn_txt_len, text_len]; omega
      · rw [List.length_append, fn_txt_len, text_len]; omega
      · rw [ea, if_pos ⟨h272, by rw [hf]; rfl⟩]
        unfold fn_taken
        rw [hf]
  · refine wp_eq (e16_2 ..) (wp_eq (e16_3 ..) (wp_if (fun _ => fin σ l0 hX (by omega) (by omega) ?_) (fun q => absurd (by decide) q)))
    rw [ea, if_neg (fun q => h272 q.1), List.append_nil]
theorem xc_tells {d : Nat} {σ : z_St} {w : Int32} (hw : gI σ 3 12 0 = w) {Q : z_St → Option z_V → Prop} (k : Q σ (some (.inl (b2i (fn_tells w))))) : wp (zD (d + 1) 215 [.inr (.inr (some (3, 0)))] σ) Q := by
  have y : fn_tells w → wp (E xP215 (zD d) 5 [none] [] σ) Q := fun h => by
    rw [b2i_t h] at k
    exact wp_eq (e215_5 ..) (wp_eq (e215_7 ..) (wp_gd (.inr rfl) (wp_ret k)))
  refine wp_eq (c215 ..) (wp_eq (e215_0 ..) (wp_if (fun h => ?_) (fun h1 => ?_)))
  · rw [hw] at h; exact y (.inl h)
  refine wp_eq (e215_1 ..) (wp_if (fun h => ?_) (fun h2 => ?_))
  · rw [hw] at h; exact y (.inr (.inl h))
  refine wp_eq (e215_2 ..) (wp_if (fun h => ?_) (fun h3 => ?_))
  · rw [hw] at h; exact y (.inr (.inr (.inl h)))
  refine wp_eq (e215_3 ..) (wp_if (fun h => ?_) (fun h4 => ?_))
  · rw [hw] at h; exact y (.inr (.inr (.inr (.inl h))))
  refine wp_eq (e215_4 ..) (wp_if (fun h => ?_) (fun h5 => ?_))
  · rw [hw] at h; exact y (.inr (.inr (.inr (.inr h))))
  rw [hw] at h1 h2 h3 h4 h5
  rw [b2i_f (fun h => by rcases h with h | h | h | h | h <;> contradiction)] at k
  exact wp_eq (e215_6 ..) (wp_eq (e215_7 ..) (wp_gd (.inl rfl) (wp_ret k)))
theorem xc_refuse {T σ : z_St} {A : w_A} (hX : w_X T σ A) {P : w_P} {c n : Nat} (hc1 : 1 ≤ c) (hc : c ≤ 8) (hP : vP A = some P) (hr : z_rP (vI A 64) P) (hB : z_B n A) {d : Nat} {Q : z_St → Option z_V → Prop} (k : ∀ σ, w_X T σ (fn_refuse A c P) → Q σ none) : wp (zD (d + 6) 17 [.inr (.inr (some (0, 0))), .inr (.inr (some (4, c))), .inr (.inr (some (3, 0)))] σ) Q := by
  obtain ⟨hH1, hH2⟩ := hB.2.2.2.2.2.2.2.1
  have hIB := hB.2.2.2.2.2.2.2.2.2.2.2.2
  have hlen := fn_ans_len (res := pW P) hr hH1
  have hby := fn_ans_by (res := pW P) hr hIB hH2
  have h0 := rx_msg hX hP
  refine wp_eq (c17 ..) (wp_eq (e17_0 ..) (wp_dr rfl (wp_gd rfl ?_)))
  dsimp only
  rw [h0.2.2.2.2.2.2.1]
  refine wp_cv (xc_answer hX hP hr hH1 fun σ hX => ⟨rfl, wp_dr rfl (wp_gd rfl ?_)⟩)
  have hm := rx_msg hX (P := P) hP
  refine wp_cr (xc_tells hm.2.2.2.2.2.2.1 ⟨_, rfl, wp_asI0 ?_⟩)
  refine wp_if (fun q => ?_) (fun q => ?_) <;> rw [b2i_0] at q
  · refine wp_eq (e17_2 ..) (wp_cv (xc_send hX hc1 hc ?_ ?_ ?_ fun σ hX => ⟨rfl, wp_ret (k σ ?_)⟩))
    · rw [fn_page_PG]; omega
    · rw [fn_page_PG]; omega
    · rw [fn_page_PG]; exact hby
    · unfold fn_refuse
      rw [if_neg q, List.append_nil]
      exact hX
  · have q := Classical.not_not.mp q
    refine wp_eq (e17_1 ..) (wp_dr rfl (wp_gd rfl (wp_dr (rx_p0_4 hX) (wp_gd rfl ?_))))
    dsimp only
    rw [hm.2.2.2.2.2.2.2.1]
    refine cvX (fun Q' k => xc_failed hX (by omega) k) fun σ hX => ?_
    refine wp_eq (e17_2 ..) (wp_cv (xc_send hX hc1 hc ?_ ?_ ?_ fun σ hX => ⟨rfl, wp_ret (k σ ?_)⟩))
    · rw [fn_page_PG, List.length_append, List.length_append, fn_attr_len, fn_attr_len]; omega
    · rw [fn_page_PG, List.length_append, List.length_append, fn_attr_len, fn_attr_len]; omega
    · rw [fn_page_PG]; exact z_by_app hby (z_by_app (fn_attr_by _ _) (fn_attr_by _ _))
    · unfold fn_refuse
      rw [if_pos q]
      exact hX
theorem xc_plain {T σ : z_St} {A : w_A} (hX : w_X T σ A) {P : w_P} {c n : Nat} {res : Int32} (hc1 : 1 ≤ c) (hc : c ≤ 8) (hP : vP A = some P) (hr : z_rP (vI A 64) P) (hB : z_B n A) {d : Nat} {Q : z_St → Option z_V → Prop} (k : ∀ σ, w_X T σ (fn_plain A c P res) → Q σ none) : wp (zD (d + 6) 18 [.inr (.inr (some (0, 0))), .inr (.inr (some (4, c))), .inr (.inr (some (3, 0))), .inl res] σ) Q := by
  obtain ⟨hH1, hH2⟩ := hB.2.2.2.2.2.2.2.1
  have hIB := hB.2.2.2.2.2.2.2.2.2.2.2.2
  have hlen := fn_ans_len (res := res) hr hH1
  have hby := fn_ans_by (res := res) hr hIB hH2
  refine wp_eq (c18 ..) (wp_eq (e18_0 ..) ?_)
  refine wp_cv (xc_answer hX hP hr hH1 fun σ hX => ⟨rfl, ?_⟩)
  refine wp_cv (xc_send hX hc1 hc ?_ ?_ ?_ fun σ hX => ⟨rfl, wp_ret (k σ hX)⟩)
  · rw [fn_page_PG]; omega
  · rw [fn_page_PG]; omega
  · rw [fn_page_PG]; exact hby
/-- is an answer to the node's own -/
theorem xc_isAns {σ : z_St} {P : w_P} (hm : x_msg σ P) {d : Nat} {cmd h : Int32} {Q : z_St → Option z_V → Prop} (k : Q σ (some (.inl (b2i (fn_isA P cmd h))))) : wp (zD (d + 2) 37 [.inr (.inr (some (3, 0))), .inl cmd, .inl h] σ) Q := by
  have no : ¬ fn_isA P cmd h → wp (E xP37 (zD (d + 1)) 6 [none, none, none] [] σ) Q := fun q => by
    rw [b2i_f q] at k
    exact wp_eq (e37_6 ..) (wp_eq (e37_7 ..) (wp_gd (.inl rfl) (wp_ret k)))
  refine wp_eq (c37 ..) (wp_eq (e37_0 ..) (wp_dr rfl (wp_gd rfl (wp_cr (xc_isReq hm.2.1 ⟨_, rfl, wp_asI0 ?_⟩)))))
  refine wp_if (fun q => ?_) (fun q => ?_) <;> rw [b2i_0] at q
  · refine wp_eq (e37_1 ..) (wp_dr rfl (wp_gd rfl (wp_if (fun h1 => ?_) (fun h1 => ?_)))) <;> dsimp only at h1 <;> rw [hm.2.2.2.2.2.2.1] at h1
    · refine wp_eq (e37_2 ..) (wp_dr rfl (wp_gd rfl (wp_if (fun h2 => ?_) (fun h2 => ?_)))) <;> dsimp only at h2 <;> rw [hm.2.2.1] at h2
      · refine wp_eq (e37_3 ..) (wp_dr rfl (wp_gd rfl (wp_if (fun h3 => ?_) (fun h3 => ?_)))) <;> dsimp only at h3 <;> rw [hm.2.2.2.2.1] at h3
        · refine wp_eq (e37_4 ..) (wp_if (fun h4 => ?_) (fun h4 => ?_))
          · exact no fun x => x.2.2.2.2 h4
          · rw [b2i_t ⟨q, h1, h2, h3, h4⟩] at k
            exact wp_eq (e37_5 ..) (wp_eq (e37_7 ..) (wp_gd (.inr rfl) (wp_ret k)))
        · exact no fun x => h3 x.2.2.2.1
      · exact no fun x => h2 x.2.2.1
    · exact no fun x => h1 x.2.1
  · exact no fun x => q x.1
theorem bi_or (a b : Prop) [Decidable a] [Decidable b] : b2i a ||| b2i b = b2i (a ∨ b) := by
  by_cases ha : a <;> by_cases hb : b
  · rw [b2i_t ha, b2i_t hb, b2i_t (.inl ha)]; rfl
  · rw [b2i_t ha, b2i_f hb, b2i_t (.inl ha)]; rfl
  · rw [b2i_f ha, b2i_t hb, b2i_t (.inr hb)]; rfl
  · rw [b2i_f ha, b2i_f hb, b2i_f (fun h => h.elim ha hb)]; rfl
theorem xl_speaks {T σ : z_St} {A : w_A} (hX : w_X T σ A) {P : w_P} (hm : x_msg σ P) (hr : z_rP (vI A 64) P) {d : Nat} {Q : z_St → Option z_V → Prop} (k : Q σ (some (.inl (b2i (fn_speaks (vI A 64) P = true))))) : ∀ (m j : Nat), j + m = (pN P).length →
    wp (E xP39 (zD (d + 1)) 1 [some (.inr (.inr (some (3, 0)))), some (.inl (b2i (((pN P).take j).any (fun q => decide (q.1 = 258 ∧ (n4 (vI A 64) (pC P) q.2.1 = 4 ∨ n4 (vI A 64) (pC P) q.2.1 = -1))) = true))), some (.inl (Int32.ofNat j))] [] σ) Q
  | 0, j, hj => by
    have hl := rP_len hr
    have h9 : gI σ 3 11 0 = Int32.ofNat (pN P).length := hm.2.2.2.2.2.2.2.2.1
    refine wp_eq (e39_1 ..) (wp_dr rfl (wp_gd rfl (wp_if (fun h => ?_) (fun h => ?_)))) <;> dsimp only at h <;> rw [h9, io_le (by omega) (by omega)] at h
    · rw [show j = (pN P).length by omega, List.take_length]
      exact wp_eq (e39_8 ..) (wp_gd (by rw [b2i_01]; trivial) (wp_ret k))
    · omega
  | m + 1, j, hj => by
    obtain ⟨hc1, hc8⟩ := rP_C hr
    have hl := rP_len hr
    have h9 : gI σ 3 11 0 = Int32.ofNat (pN P).length := hm.2.2.2.2.2.2.2.2.1
    have hjl : j < (pN P).length := by omega
    have h10 := hm.2.2.2.2.2.2.2.2.2 j hjl
    have hgq := rP_gq hr _ (List.getElem_mem hjl)
    have step : ∀ (b : Int32), b = b2i ((pN P)[j].1 = 258 ∧ (n4 (vI A 64) (pC P) (pN P)[j].2.1 = 4 ∨ n4 (vI A 64) (pC P) (pN P)[j].2.1 = -1)) → wp (E xP39 (zD (d + 1)) 7 [some (.inr (.inr (some (3, 0)))), none, some (.inl (Int32.ofNat j))] [.inl b, .inl (b2i (((pN P).take j).any (fun q => decide (q.1 = 258 ∧ (n4 (vI A 64) (pC P) q.2.1 = 4 ∨ n4 (vI A 64) (pC P) q.2.1 = -1))) = true))] σ) Q := by
      rintro b rfl
      refine wp_eq (e39_7 ..) ?_
      rw [bi_or, io_add_l]
      have := xl_speaks (d := d) hX hm hr k m (j + 1) (by omega)
      rw [List.take_succ_eq_append_getElem hjl] at this
      simp only [List.any_append, List.any_cons, List.any_nil, Bool.or_false, Bool.or_eq_true, decide_eq_true_eq] at this ⊢
      exact this
    refine wp_eq (e39_1 ..) (wp_dr rfl (wp_gd rfl (wp_if (fun h => ?_) (fun h => ?_)))) <;> dsimp only at h <;> rw [h9, io_le (by omega) (by omega)] at h
    · omega
    · refine wp_eq (e39_2 ..) (wp_dr rfl (wp_gd rfl (wp_dr (rx_p3_8 hX) (wp_gd aty_76548624 (wp_gd ?_ ?_)))))
      · rw [alen_76548624]; exact zin_io (by omega) (by decide)
      dsimp only
      rw [io_nat (by omega), h10.1]
      have zf : zin (Int32.ofNat j) (aLen 77597200) := by rw [alen_77597200]; exact zin_io (by omega) (by decide)
      refine wp_if (fun h258 => ?_) (fun h258 => ?_)
      · have h600 : (pN P)[j].2.1 + 4 ≤ 600 := by
          have hk := hgq.2.2.1
          rw [h258] at hk
          have := hk.2.1 (by decide)
          have := hgq.2.1
          omega
        refine wp_eq (e39_3 ..) (wp_dr rfl (wp_gd rfl (wp_dr (rx_p3_9 hX) (wp_gd aty_77597200 (wp_gd zf (wp_dr rfl (wp_gd rfl ?_)))))))
        dsimp only
        rw [io_nat (by omega), h10.2.1]
        refine wp_cr (xc_get (d := d) (n := 4) hX hc1 hc8 hm.1 h600 rfl rfl ⟨_, rfl, wp_asJ0 ?_⟩)
        rw [gw4]
        refine wp_if (fun h4 => ?_) (fun h4 => ?_)
        · exact wp_eq (e39_5 ..) (step 1 (b2i_t ⟨h258, .inl h4⟩).symm)
        · refine wp_eq (e39_4 ..) (wp_dr rfl (wp_gd rfl (wp_dr (rx_p3_9 hX) (wp_gd aty_77597200 (wp_gd zf (wp_dr rfl (wp_gd rfl ?_)))))))
          dsimp only
          rw [io_nat (by omega), h10.2.1]
          refine wp_cr (xc_get (d := d) (n := 4) hX hc1 hc8 hm.1 h600 rfl rfl ⟨_, rfl, wp_asJ0 ?_⟩)
          rw [gw4]
          refine wp_if (fun h5 => ?_) (fun h5 => ?_)
          · exact wp_eq (e39_5 ..) (step 1 (b2i_t ⟨h258, .inr h5⟩).symm)
          · exact wp_eq (e39_6 ..) (step 0 (b2i_f (fun q => q.2.elim h4 h5)).symm)
      · exact wp_eq (e39_6 ..) (step 0 (b2i_f (fun q => h258 q.1)).symm)
theorem xc_speaks {T σ : z_St} {A : w_A} (hX : w_X T σ A) {P : w_P} (hm : x_msg σ P) (hr : z_rP (vI A 64) P) {d : Nat} {Q : z_St → Option z_V → Prop} (k : Q σ (some (.inl (b2i (fn_speaks (vI A 64) P = true))))) : wp (zD (d + 2) 39 [.inr (.inr (some (3, 0)))] σ) Q :=
  wp_eq (c39 ..) (wp_eq (e39_0 ..) (xl_speaks hX hm hr k (pN P).length 0 (by omega)))
