/-! PART 87g (src 87g.mans.src): the twin's texts and answers -/
set_option maxHeartbeats 800000
theorem rm_msg {T σ : z_St} {A : w_A} (h : w_M T σ A) {P : w_P} (hP : vP A = some P) : m_msg σ A P := rm_M h P hP
theorem mm_key {σ : z_St} {A : w_A} {P : w_P} (h : m_msg σ A P) {k : Nat} (hk : k < 9) : z_kf σ (pN P) k := h.2.2.2.2.2.2.2.2.1 k (by omega) (.inr hk)
theorem ml_isText {T σ : z_St} {A : w_A} (hM : w_M T σ A) {c k : Nat} (hb : gI σ 8 67 0 = Int32.ofNat (600 * c)) (hc : c ≤ 8) (hk12 : k < 12) {p n : Nat} (hp : gI σ 66060688 0 k = Int32.ofNat p) (hpn : p + n ≤ 600) {a f : Nat} (ha : aTy a = 17) {l : List Int32} (hln : l.length = n) (hf : f + n ≤ aLen a) (hL : aLen a < 2147483648) (hr : ∀ j, (hj : j < l.length) → gI σ a 0 (f + j) = l[j]) {d : Nat} {Q : z_St → Option z_V → Prop} (q : Q σ (some (.inl (b2i (fn_text (vI A 64) c p n = l))))) : ∀ (m i : Nat), i + m = n → (∀ j, (hj : j < l.length) → j < i → vI A 64 (600 * c + (p + j)) = l[j]) →
    wp (E xP119 (zD d) 4 [some (.inr (.inr (some (8, 0)))), some (.inl (Int32.ofNat k)), some (.inr (.inr (some (a, 0)))), some (.inl (Int32.ofNat f)), some (.inl (Int32.ofNat n)), some (.inl 1), some (.inl (Int32.ofNat i))] [] σ) Q
  | 0, i, hi, hj => by
    have e : fn_text (vI A 64) c p n = l := by
      apply List.ext_getElem
      · rw [text_len, hln]
      · intro j h1 h2
        rw [text_get h1]
        exact hj j h2 (by omega)
    rw [b2i_t e] at q
    refine wp_eq (e119_4 ..) (wp_if (fun _ => wp_eq (e119_10 ..) (wp_gd (.inr rfl) (wp_ret q))) (fun h => ?_))
    rw [io_le (by omega) (by omega)] at h
    omega
  | m + 1, i, hi, hj => by
    have hil : i < l.length := by omega
    refine wp_eq (e119_4 ..) (wp_if (fun h => ?_) (fun h => ?_)) <;> rw [io_le (by omega) (by omega)] at h
    · omega
    refine wp_eq (e119_5 ..) (wp_if (fun h => absurd h (by decide)) (fun _ => ?_))
    refine wp_eq (e119_6 ..) (wp_ar (k := k) (rm_p77 hM) aty_66060688 alen_66060688 rfl (by omega) (by decide) ?_)
    dsimp only
    have hk31 : k < 2147483648 := by omega
    simp only [io_nat hk31, hb, hp, io_add]
    refine (wp_ar (k := 600 * c + p + i) (rm_p29 hM) aty_31630097 alen_31630097 rfl (by omega) (by decide) ?_)
    refine wp_dr rfl (wp_gd ha (wp_gd (zin_io (show f + i < aLen a by omega) (show aLen a ≤ 2147483648 by omega)) ?_))
    dsimp only
    rw [io_nat (by omega), io_nat (by omega), rm_I hM _ (by omega), hr i hil]
    refine wp_if (fun h => ?_) (fun h => ?_)
    · refine wp_eq (e119_7 ..) (wp_eq (e119_9 ..) ?_)
      rw [io_add_l]
      refine ml_isText hM hb hc hk12 hp hpn ha hln hf hL hr q m (i + 1) (by omega) (fun j h1 h2 => ?_)
      by_cases e : j = i
      · subst e
        rw [← h, Nat.add_assoc]
      · exact hj j h1 (by omega)
    · have e : ¬ fn_text (vI A 64) c p n = l := by
        intro e
        apply h
        have h1 : i < (fn_text (vI A 64) c p n).length := by rw [text_len]; omega
        have := text_get h1
        rw [Nat.add_assoc, ← this]
        simp only [e]
      rw [b2i_f e] at q
      refine wp_eq (e119_8 ..) (wp_eq (e119_9 ..) (wp_eq (e119_4 ..) ?_))
      exact wp_if (fun _ => wp_eq (e119_10 ..) (wp_gd (.inl rfl) (wp_ret q))) (fun _ => wp_eq (e119_5 ..) (wp_if (fun _ => wp_eq (e119_10 ..) (wp_gd (.inl rfl) (wp_ret q))) (fun h => absurd rfl h)))
theorem mw_isText {T σ : z_St} {A : w_A} (hM : w_M T σ A) {c k : Nat} (hb : gI σ 8 67 0 = Int32.ofNat (600 * c)) (hc : c ≤ 8) (hk12 : k < 12) {p n : Nat} (hp : gI σ 66060688 0 k = Int32.ofNat p) (hn : gI σ 67109264 0 k = Int32.ofNat n) (hpn : p + n ≤ 600) {a f : Nat} (ha : aTy a = 17) {l : List Int32} (hl : l.length ≤ 40) (hf : f + l.length ≤ aLen a) (hL : aLen a < 2147483648) (hr : ∀ j, (hj : j < l.length) → gI σ a 0 (f + j) = l[j]) {d : Nat} {x1 x3 x4 : Int32} (h1 : x1 = Int32.ofNat k) (h3 : x3 = Int32.ofNat f) (h4 : x4 = Int32.ofNat l.length) {Q : z_St → Option z_V → Prop} (q : Q σ (some (.inl (b2i (fn_text (vI A 64) c p n = l))))) : wp (zD (d + 1) 119 [.inr (.inr (some (8, 0))), .inl x1, .inr (.inr (some (a, 0))), .inl x3, .inl x4] σ) Q := by
  subst h1 h3 h4
  refine wp_eq (c119 ..) (wp_eq (e119_0 ..) (wp_ar (k := k) (rm_p78 hM) aty_67109264 alen_67109264 rfl (by omega) (by decide) ?_))
  have hk31 : k < 2147483648 := by omega
  dsimp only
  rw [io_nat hk31, hn]
  refine wp_if (fun h => ?_) (fun h => ?_) <;> rw [io_inj (by omega) (by omega)] at h
  · subst h
    exact wp_eq (e119_1 ..) (wp_eq (e119_3 ..) (ml_isText hM hb hc hk12 hp hpn ha rfl hf hL hr q l.length 0 (by omega) (fun j _ h => absurd h (by omega))))
  · have e : ¬ fn_text (vI A 64) c p n = l := fun e => h (by rw [← e, text_len])
    rw [b2i_f e] at q
    refine wp_eq (e119_2 ..) (wp_eq (e119_3 ..) (wp_eq (e119_4 ..) ?_))
    exact wp_if (fun _ => wp_eq (e119_10 ..) (wp_gd (.inl rfl) (wp_ret q))) (fun _ => wp_eq (e119_5 ..) (wp_if (fun _ => wp_eq (e119_10 ..) (wp_gd (.inl rfl) (wp_ret q))) (fun h => absurd rfl h)))
/-- the twin's answer's head and common part -/
theorem mc_ans {T σ : z_St} {A : w_A} (hM : w_M T σ A) {P : w_P} (hP : vP A = some P) (hr : z_rP (vI A 64) P) (hH : (vL A 1 0).length ≤ 40) (hHb : z_by (vL A 1 0)) (hIB : ∀ k, nb (vI A 64 k) = vI A 64 k) {d : Nat} {res : Int32} {Q : z_St → Option z_V → Prop} (k : ∀ σ, w_M T σ (fn_page A (fn_ans A P res)) → Q σ none) : wp (zD (d + 5) 120 [.inr (.inr (some (8, 0))), .inl res] σ) Q := by
  obtain ⟨hc1, hc8⟩ := rP_C hr
  have hln := rP_len hr
  have h0 := rm_msg hM hP
  let l0 := fn_hd ((pF P &&& 64) ||| (if 3000 ≤ res ∧ res ≤ 3999 then 32 else 0)) (pM P) (pA_ P) (pH P) (pE P)
  have hl0 : l0.length = 20 := rfl
  have ea : fn_ans A P res = l0 ++ (if pM P = 272 ∧ (fn_find (pN P) 263).isSome = true then fn_txt 263 (fn_taken (vI A 64) P 263) else []) ++ fn_num 268 res ++ fn_me A := rfl
  have fin : ∀ σ l, w_M T σ (fn_page A l) → l.length % 4 = 0 → l.length ≤ 71 → l ++ fn_num 268 res ++ fn_me A = fn_ans A P res → wp (E xP120 (zD (d + 4)) 7 [some (.inr (.inr (some (8, 0)))), some (.inl res)] [] σ) Q := by
    intro σ l hM hl4 hl e
    refine wp_eq (e120_7 ..) (cvM (fun Q' k => mc_num (d := d + 1) hM (by omega) k) fun σ hM => ?_)
    refine cvM (fun Q' k => mc_me (d := d) hM (show (vL A 1 0).length ≤ 40 from hH) (show z_by (vL A 1 0) from hHb) (by rw [List.length_append, fn_num_len]; omega) (by rw [List.length_append, fn_num_len]; omega) k) fun σ hM => ?_
    have hM : w_M T σ (fn_page A (l ++ fn_num 268 res ++ fn_me A)) := hM
    rw [e] at hM
    exact wp_ret (k σ hM)
  have k4 : ∀ v, v = (if 3000 ≤ res ∧ res ≤ 3999 then 32 else 0 : Int32) → wp (E xP120 (zD (d + 4)) 4 [some (.inr (.inr (some (8, 0)))), some (.inl res)] [.inl v, .inl (pF P &&& 64), .inr (.inr (some (8, 0)))] σ) Q := by
    rintro v rfl
    refine wp_eq (e120_4 ..) (wp_dr rfl (wp_gd rfl ?_))
    rw [h0.2.2.1, h0.2.2.2.1, h0.2.2.2.2.1, h0.2.2.2.2.2.1]
    refine cvM (fun Q' k => mc_head (d := d + 2) hM k) fun σ hM => ?_
    have hM : w_M T σ (fn_page A l0) := hM
    have hm := rm_msg hM (P := P) hP
    rw [hm.2.2.1]
    refine wp_if (fun h272 => ?_) (fun h272 => ?_)
    rotate_left
    · exact fin σ l0 hM (by omega) (by omega) (by rw [ea, if_neg (fun q => h272 q.1), List.append_nil])
    obtain ⟨hk1, hk2⟩ : gI σ 68157840 0 0 = Int32.ofNat (fn_many (pN P) 263) ∧ ∀ q, fn_find (pN P) 263 = some q → gI σ 66060688 0 0 = Int32.ofNat q.2.1 ∧ gI σ 67109264 0 0 = Int32.ofNat q.2.2 := mm_key hm (k := 0) (by decide)
    have hml := many_le (pN P) 263
    have hm0 := many_0 (pN P) 263
    refine wp_eq (e120_5 ..) (wp_ar (k := 0) (rm_p79 hM) aty_68157840 alen_68157840 rfl (by decide) (by decide) ?_)
    dsimp only
    rw [show (0 : Int32).toNatClampNeg = 0 from by decide, hk1]
    refine wp_if (fun h => ?_) (fun h => ?_) <;> rw [io_le_l (Nat.lt_of_le_of_lt hml (by omega)) (by decide)] at h
    · have h : fn_many (pN P) 263 ≤ 0 := h
      refine fin σ l0 hM (by omega) (by omega) ?_
      rw [ea, if_neg (fun q => by have := q.2; rw [hm0.mp (by omega)] at this; exact absurd this (by decide)), List.append_nil]
    · have h : ¬ fn_many (pN P) 263 ≤ 0 := h
      cases hf : fn_find (pN P) 263 with
      | none => exact absurd (hm0.mpr hf) (by omega)
      | some q =>
        obtain ⟨g1, g2⟩ := hk2 q hf
        have hq := rP_txt hr (by decide) q hf
        refine wp_eq (e120_6 ..) (wp_ar (k := 0) (rm_p77 hM) aty_66060688 alen_66060688 rfl (by decide) (by decide) ?_)
        refine (wp_ar (k := 0) (rm_p78 hM) aty_67109264 alen_67109264 rfl (by decide) (by decide) ?_)
        dsimp only
        rw [show (0 : Int32).toNatClampNeg = 0 from by decide, g1, g2, hm.1, rm_p29 hM]
        have ht : (fn_text (vI A 64) (pC P) q.2.1 q.2.2).length = q.2.2 := text_len _ _ _ _
        have hnm := text_nm (r := vI A 64) (c := pC P) (k := q.2.1) hIB hq.2.2
        refine cvM (fun Q' k => mc_text (d := d + 1) (m := fn_text (vI A 64) (pC P) q.2.1 q.2.2) (f := 600 * pC P + q.2.1) hM (io_add _ _) (by rw [ht]) aty_31630097 (by rw [ht, alen_31630097]; omega) (by rw [alen_31630097]; decide) (by omega) hnm.2 (fun σ' l hM' j hj => ?_) (by omega) (by omega) k) fun σ hM => ?_
        · rw [text_get hj]
          rw [ht] at hj
          have := rm_I hM' (600 * pC P + q.2.1 + j) (by omega)
          rw [this, Nat.add_assoc]
          rfl
        · refine fin σ _ hM ?_ ?_ ?_
          · rw [List.length_append, fn_txt_len, ht]; omega
          · rw [List.length_append, fn_txt_len, ht]; omega
          · rw [ea, if_pos ⟨h272, by rw [hf]; rfl⟩]
            unfold fn_taken
            rw [hf]
  refine wp_eq (c120 ..) (wp_eq (e120_0 ..) ?_)
  rw [h0.2.1]
  refine wp_if (fun h1 => ?_) (fun h1 => ?_)
  · exact wp_eq (e120_3 ..) (k4 0 (by rw [if_neg (fun q => Int32.not_le.mpr h1 q.1)]))
  · refine wp_eq (e120_1 ..) (wp_if (fun h2 => ?_) (fun h2 => ?_))
    · exact wp_eq (e120_3 ..) (k4 0 (by rw [if_neg (fun q => Int32.not_le.mpr h2 q.2)]))
    · exact wp_eq (e120_2 ..) (k4 32 (by rw [if_pos ⟨Int32.not_lt.mp h1, Int32.not_lt.mp h2⟩]))
theorem mc_refuse {T σ : z_St} {A : w_A} (hM : w_M T σ A) {P : w_P} {c n : Nat} (hc1 : 1 ≤ c) (hc : c ≤ 8) (hP : vP A = some P) (hr : z_rP (vI A 64) P) (hB : z_B n A) (hq : fn_req P) {d : Nat} {x : Int32} (hx : x = Int32.ofNat c) {Q : z_St → Option z_V → Prop} (k : ∀ σ, w_M T σ (fn_refuse A c P) → Q σ none) : wp (zD (d + 6) 121 [.inr (.inr (some (8, 0))), .inl x] σ) Q := by
  subst hx
  obtain ⟨hH1, hH2⟩ := hB.2.2.2.2.2.2.2.1
  have hIB := hB.2.2.2.2.2.2.2.2.2.2.2.2
  have hlen := fn_ans_len (res := pW P) hr hH1
  have hby := fn_ans_by (res := pW P) hr hIB hH2
  have h0 := rm_msg hM hP
  refine wp_eq (c121 ..) (wp_eq (e121_0 ..) ?_)
  rw [h0.2.2.2.2.2.2.1]
  refine cvM (fun Q' k => mc_ans (d := d) hM hP hr hH1 hH2 hIB k) fun σ hM => ?_
  have hm := rm_msg hM (P := P) hP
  have h74 := hm.2.2.2.2.2.2.1
  have fin : ∀ σ l, w_M T σ (fn_page A l) → l = fn_ans A P (pW P) ++ (if fn_tells (pW P) then fn_attr 279 8 ++ fn_attr (pX P) 0 else []) → wp (E xP121 (zD (d + 5)) 6 [some (.inr (.inr (some (8, 0)))), some (.inl (Int32.ofNat c))] [] σ) Q := by
    rintro σ l hM rfl
    refine wp_eq (e121_6 ..) (cvM (fun Q' k => mc_go (d := d + 4) hM hc1 hc ?_ ?_ ?_ k) fun σ hM => wp_ret (k σ hM))
    · rw [fn_page_PG, List.length_append]; omega
    · rw [fn_page_PG, List.length_append]
      split
      · rw [List.length_append, fn_attr_len, fn_attr_len]; omega
      · rw [List.length_nil]; omega
    · rw [fn_page_PG]
      refine z_by_app hby ?_
      split
      · exact z_by_app (fn_attr_by _ _) (fn_attr_by _ _)
      · exact z_by_nil
  have y : fn_tells (pW P) → wp (E xP121 (zD (d + 5)) 5 [some (.inr (.inr (some (8, 0)))), some (.inl (Int32.ofNat c))] [] σ) Q := by
    intro ht
    refine wp_eq (e121_5 ..) (cvM (fun Q' k => mc_attr (d := d + 3) hM 8 rfl (by omega) k) fun σ hM => ?_)
    have hm := rm_msg hM (P := P) hP
    rw [hm.2.2.2.2.2.2.2.1 hq]
    refine cvM (fun Q' k => mc_attr (d := d + 3) hM 0 rfl (by rw [List.length_append, fn_attr_len]; omega) k) fun σ hM => ?_
    exact fin σ _ hM (by rw [if_pos ht, List.append_assoc])
  refine wp_if (fun h => ?_) (fun h1 => ?_)
  · rw [h74] at h; exact y (.inl h)
  refine wp_eq (e121_1 ..) (wp_if (fun h => ?_) (fun h2 => ?_))
  · rw [h74] at h; exact y (.inr (.inl h))
  refine wp_eq (e121_2 ..) (wp_if (fun h => ?_) (fun h3 => ?_))
  · rw [h74] at h; exact y (.inr (.inr (.inl h)))
  refine wp_eq (e121_3 ..) (wp_if (fun h => ?_) (fun h4 => ?_))
  · rw [h74] at h; exact y (.inr (.inr (.inr (.inl h))))
  refine wp_eq (e121_4 ..) (wp_if (fun h => ?_) (fun h5 => ?_))
  · rw [h74] at h; exact y (.inr (.inr (.inr (.inr h))))
  rw [h74] at h1 h2 h3 h4 h5
  exact fin σ _ hM (by rw [if_neg (fun h => by rcases h with h | h | h | h | h <;> contradiction), List.append_nil])
theorem mc_with {T σ : z_St} {A : w_A} (hM : w_M T σ A) {P : w_P} {c n : Nat} (hc1 : 1 ≤ c) (hc : c ≤ 8) (hP : vP A = some P) (hr : z_rP (vI A 64) P) (hB : z_B n A) {d : Nat} {x res : Int32} (hx : x = Int32.ofNat c) (hne : ¬ (res = 2001 ∧ pM P = 257)) {Q : z_St → Option z_V → Prop} (k : ∀ σ, w_M T σ (fn_send (fn_page A (fn_ans A P res ++ (if res = 2001 ∧ pM P = 280 then fn_num 278 1 else []))) c) → Q σ none) : wp (zD (d + 6) 122 [.inr (.inr (some (8, 0))), .inl x, .inl res] σ) Q := by
  subst hx
  obtain ⟨hH1, hH2⟩ := hB.2.2.2.2.2.2.2.1
  have hIB := hB.2.2.2.2.2.2.2.2.2.2.2.2
  have hlen := fn_ans_len (res := res) hr hH1
  have hby := fn_ans_by (res := res) hr hIB hH2
  refine wp_eq (c122 ..) (wp_eq (e122_0 ..) (cvM (fun Q' k => mc_ans (d := d) hM hP hr hH1 hH2 hIB k) fun σ hM => ?_))
  have hm := rm_msg hM (P := P) hP
  have fin : ∀ σ l, w_M T σ (fn_page A l) → l = fn_ans A P res ++ (if res = 2001 ∧ pM P = 280 then fn_num 278 1 else []) → wp (E xP122 (zD (d + 5)) 6 [some (.inr (.inr (some (8, 0)))), some (.inl (Int32.ofNat c)), none] [] σ) Q := by
    rintro σ l hM rfl
    refine wp_eq (e122_6 ..) (cvM (fun Q' k => mc_go (d := d + 4) hM hc1 hc ?_ ?_ ?_ k) fun σ hM => wp_ret (k σ hM))
    · rw [fn_page_PG, List.length_append]; omega
    · rw [fn_page_PG, List.length_append]
      split
      · rw [fn_num_len]; omega
      · rw [List.length_nil]; omega
    · rw [fn_page_PG]
      refine z_by_app hby ?_
      split
      · exact fn_num_by _ _
      · exact z_by_nil
  have k3 : wp (E xP122 (zD (d + 5)) 3 [some (.inr (.inr (some (8, 0)))), some (.inl (Int32.ofNat c)), some (.inl res)] [] σ) Q := by
    refine wp_eq (e122_3 ..) (wp_if (fun h => ?_) (fun h => ?_))
    · refine wp_eq (e122_4 ..) ?_
      rw [hm.2.2.1]
      refine wp_if (fun g => ?_) (fun g => ?_)
      · refine wp_eq (e122_5 ..) (cvM (fun Q' k => mc_num (d := d + 2) hM (by omega) k) fun σ hM => ?_)
        exact fin σ _ hM (by rw [if_pos ⟨h, g⟩])
      · exact fin σ _ hM (by rw [if_neg (fun q => g q.2), List.append_nil])
    · exact fin σ _ hM (by rw [if_neg (fun q => h q.1), List.append_nil])
  refine wp_if (fun h => ?_) (fun h => k3)
  refine wp_eq (e122_1 ..) ?_
  rw [hm.2.2.1]
  exact wp_if (fun g => absurd ⟨h, g⟩ hne) (fun _ => k3)
theorem mc_plain {T σ : z_St} {A : w_A} (hM : w_M T σ A) {P : w_P} {c n : Nat} (hc1 : 1 ≤ c) (hc : c ≤ 8) (hP : vP A = some P) (hr : z_rP (vI A 64) P) (hB : z_B n A) {d : Nat} {x res : Int32} (hx : x = Int32.ofNat c) (hne : ¬ (res = 2001 ∧ (pM P = 257 ∨ pM P = 280))) {Q : z_St → Option z_V → Prop} (k : ∀ σ, w_M T σ (fn_plain A c P res) → Q σ none) : wp (zD (d + 6) 122 [.inr (.inr (some (8, 0))), .inl x, .inl res] σ) Q := by
  refine mc_with hM hc1 hc hP hr hB hx (fun q => hne ⟨q.1, .inl q.2⟩) fun σ hM => k σ ?_
  rw [if_neg (fun q => hne ⟨q.1, .inr q.2⟩), List.append_nil] at hM
  exact hM
theorem mc_ours {T σ : z_St} {A : w_A} (hM : w_M T σ A) {P : w_P} (hP : vP A = some P) {d : Nat} {cmd h : Int32} {Q : z_St → Option z_V → Prop} (k : Q σ (some (.inl (b2i (¬ fn_req P ∧ pM P = cmd ∧ pH P = h))))) : wp (zD (d + 2) 156 [.inr (.inr (some (8, 0))), .inl cmd, .inl h] σ) Q := by
  have hm := rm_msg hM hP
  have no : ¬ (¬ fn_req P ∧ pM P = cmd ∧ pH P = h) → wp (E xP156 (zD (d + 1)) 4 [none, none, none] [] σ) Q := by
    intro q
    rw [b2i_f q] at k
    exact wp_eq (e156_4 ..) (wp_eq (e156_5 ..) (wp_gd (.inl rfl) (wp_ret k)))
  refine wp_eq (c156 ..) (wp_eq (e156_0 ..) (wp_cr (mw_isReq (d := d) hm.2.1 ⟨_, rfl, wp_asI0 ?_⟩)))
  refine wp_if (fun q => ?_) (fun q => ?_) <;> rw [b2i_0] at q
  · refine wp_eq (e156_1 ..) ?_
    rw [hm.2.2.1]
    refine wp_if (fun q1 => ?_) (fun q1 => no (fun g => q1 g.2.1))
    refine wp_eq (e156_2 ..) ?_
    rw [hm.2.2.2.2.1]
    refine wp_if (fun q2 => ?_) (fun q2 => no (fun g => q2 g.2.2))
    rw [b2i_t ⟨q, q1, q2⟩] at k
    exact wp_eq (e156_3 ..) (wp_eq (e156_5 ..) (wp_gd (.inr rfl) (wp_ret k)))
  · exact no (fun g => q g.1)
