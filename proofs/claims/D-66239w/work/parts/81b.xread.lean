/-! PART 81b (src 81b.xread.src): the component reads a message -/
set_option maxHeartbeats 800000
theorem find_drop {l : List w_Q} {code : Int32} {j : Nat} (hj : j < l.length) : fn_find (l.drop j) code = if l[j].1 = code then some l[j] else fn_find (l.drop (j + 1)) code := by
  rw [List.drop_eq_getElem_cons hj]
  unfold fn_find
  rw [List.find?_cons]
  by_cases h : l[j].1 = code
  · rw [if_pos h, decide_eq_true h]
  · rw [if_neg h, decide_eq_false h]
theorem many_drop {l : List w_Q} {code : Int32} {j : Nat} (hj : j < l.length) : fn_many (l.drop j) code = (if l[j].1 = code then 1 else 0) + fn_many (l.drop (j + 1)) code := by
  rw [List.drop_eq_getElem_cons hj]
  unfold fn_many
  rw [List.filter_cons]
  by_cases h : l[j].1 = code
  · rw [if_pos h, if_pos (decide_eq_true h), List.length_cons]; omega
  · rw [if_neg h, if_neg (by rw [decide_eq_false h]; decide)]; omega
theorem xl_find {T σ : z_St} {A : w_A} (hX : w_X T σ A) {P : w_P} (hm : x_msg σ P) (hl : (pN P).length ≤ 80) {d : Nat} {code : Int32} {Q : z_St → Option z_V → Prop} (k0 : fn_find (pN P) code = none → Q σ (some (.inl (-1)))) (k1 : ∀ j, (h : j < (pN P).length) → fn_find (pN P) code = some (pN P)[j] → Q σ (some (.inl (Int32.ofNat j)))) : ∀ (m j : Nat), j + m = (pN P).length → fn_find ((pN P).drop j) code = fn_find (pN P) code →
    wp (E xP205 (zD d) 1 [some (.inr (.inr (some (3, 0)))), some (.inl code), some (.inl (Int32.ofNat j))] [] σ) Q
  | 0, j, hj, hf => by
    have h9 : gI σ 3 11 0 = Int32.ofNat (pN P).length := hm.2.2.2.2.2.2.2.2.1
    have hfn : fn_find (pN P) code = none := by rw [← hf, show j = (pN P).length by omega, List.drop_length]; rfl
    refine wp_eq (e205_1 ..) (wp_if (fun h => ?_) (fun h => ?_)) <;> rw [h9, io_le (by omega) (by omega)] at h
    · refine wp_eq (e205_4 ..) (wp_if (fun h => ?_) (fun h => ?_)) <;> rw [h9, io_inj (by omega) (by omega)] at h
      · exact wp_eq (e205_5 ..) (wp_eq (e205_7 ..) (wp_ret (k0 hfn)))
      · omega
    · omega
  | m + 1, j, hj, hf => by
    have h9 : gI σ 3 11 0 = Int32.ofNat (pN P).length := hm.2.2.2.2.2.2.2.2.1
    have hjl : j < (pN P).length := by omega
    have h10 : gI σ 76548624 0 j = (pN P)[j].1 := (hm.2.2.2.2.2.2.2.2.2 j hjl).1
    rw [find_drop hjl] at hf
    refine wp_eq (e205_1 ..) (wp_if (fun h => ?_) (fun h => ?_)) <;> rw [h9, io_le (by omega) (by omega)] at h
    · omega
    · refine wp_eq (e205_2 ..) (wp_dr (rx_p3_8 hX) (wp_gd aty_76548624 (wp_gd ?_ ?_)))
      · rw [alen_76548624]; exact zin_io (by omega) (by decide)
      dsimp only
      rw [io_nat (by omega), h10]
      refine wp_if (fun hc => ?_) (fun hc => ?_)
      · rw [if_pos hc] at hf
        refine wp_eq (e205_4 ..) (wp_if (fun h => ?_) (fun h => ?_)) <;> rw [h9, io_inj (by omega) (by omega)] at h
        · omega
        · exact wp_eq (e205_6 ..) (wp_eq (e205_7 ..) (wp_ret (k1 j hjl hf.symm)))
      · rw [if_neg hc] at hf
        refine wp_eq (e205_3 ..) ?_
        rw [io_add_l]
        exact xl_find hX hm hl k0 k1 m (j + 1) (by omega) hf
theorem xc_find {T σ : z_St} {A : w_A} (hX : w_X T σ A) {P : w_P} (hm : x_msg σ P) (hl : (pN P).length ≤ 80) {d : Nat} {code : Int32} {Q : z_St → Option z_V → Prop} (k0 : fn_find (pN P) code = none → Q σ (some (.inl (-1)))) (k1 : ∀ j, (h : j < (pN P).length) → fn_find (pN P) code = some (pN P)[j] → Q σ (some (.inl (Int32.ofNat j)))) : wp (zD (d + 1) 205 [.inr (.inr (some (3, 0))), .inl code] σ) Q :=
  wp_eq (c205 ..) (wp_eq (e205_0 ..) (xl_find hX hm hl k0 k1 (pN P).length 0 (by omega) rfl))
theorem xl_many {T σ : z_St} {A : w_A} (hX : w_X T σ A) {P : w_P} (hm : x_msg σ P) (hl : (pN P).length ≤ 80) {d : Nat} {code : Int32} {Q : z_St → Option z_V → Prop} (k : Q σ (some (.inl (Int32.ofNat (fn_many (pN P) code))))) : ∀ (m j s : Nat), j + m = (pN P).length → s + fn_many ((pN P).drop j) code = fn_many (pN P) code →
    wp (E xP204 (zD d) 1 [some (.inr (.inr (some (3, 0)))), some (.inl code), some (.inl (Int32.ofNat s)), some (.inl (Int32.ofNat j))] [] σ) Q
  | 0, j, s, hj, hf => by
    have h9 : gI σ 3 11 0 = Int32.ofNat (pN P).length := hm.2.2.2.2.2.2.2.2.1
    have hfn : s = fn_many (pN P) code := by
      rw [← hf, show j = (pN P).length by omega, List.drop_length]
      rfl
    refine wp_eq (e204_1 ..) (wp_if (fun h => ?_) (fun h => ?_)) <;> rw [h9, io_le (by omega) (by omega)] at h
    · rw [← hfn] at k
      exact wp_eq (e204_6 ..) (wp_ret k)
    · omega
  | m + 1, j, s, hj, hf => by
    have h9 : gI σ 3 11 0 = Int32.ofNat (pN P).length := hm.2.2.2.2.2.2.2.2.1
    have hjl : j < (pN P).length := by omega
    have h10 : gI σ 76548624 0 j = (pN P)[j].1 := (hm.2.2.2.2.2.2.2.2.2 j hjl).1
    rw [many_drop hjl] at hf
    refine wp_eq (e204_1 ..) (wp_if (fun h => ?_) (fun h => ?_)) <;> rw [h9, io_le (by omega) (by omega)] at h
    · omega
    · refine wp_eq (e204_2 ..) (wp_dr (rx_p3_8 hX) (wp_gd aty_76548624 (wp_gd ?_ ?_)))
      · rw [alen_76548624]; exact zin_io (by omega) (by decide)
      dsimp only
      rw [io_nat (by omega), h10]
      refine wp_if (fun hc => ?_) (fun hc => ?_)
      · rw [if_pos hc] at hf
        refine wp_eq (e204_3 ..) (wp_eq (e204_5 ..) ?_)
        rw [io_add_l, io_add_l]
        exact xl_many hX hm hl k m (j + 1) (s + 1) (by omega) (by omega)
      · rw [if_neg hc] at hf
        refine wp_eq (e204_4 ..) (wp_eq (e204_5 ..) ?_)
        rw [io_add_l, io_add_l]
        exact xl_many hX hm hl k m (j + 1) (s + 0) (by omega) (by omega)
theorem xc_many {T σ : z_St} {A : w_A} (hX : w_X T σ A) {P : w_P} (hm : x_msg σ P) (hl : (pN P).length ≤ 80) {d : Nat} {code : Int32} {Q : z_St → Option z_V → Prop} (k : Q σ (some (.inl (Int32.ofNat (fn_many (pN P) code))))) : wp (zD (d + 1) 204 [.inr (.inr (some (3, 0))), .inl code] σ) Q :=
  wp_eq (c204 ..) (wp_eq (e204_0 ..) (xl_many hX hm hl k (pN P).length 0 0 (by omega) (Nat.zero_add _)))
theorem io_neg {j : Nat} (h : j < 2147483648) : ¬ Int32.ofNat j < 0 := by
  rw [show (0 : Int32) = Int32.ofNat 0 from rfl, io_lt h (by decide)]
  omega
theorem xc_has {T σ : z_St} {A : w_A} (hX : w_X T σ A) {P : w_P} (hm : x_msg σ P) (hl : (pN P).length ≤ 80) {d : Nat} {code : Int32} {Q : z_St → Option z_V → Prop} (k : Q σ (some (.inl (b2i ((fn_find (pN P) code).isSome = true))))) : wp (zD (d + 2) 206 [.inr (.inr (some (3, 0))), .inl code] σ) Q := by
  refine wp_eq (c206 ..) (wp_eq (e206_0 ..) (wp_cr (xc_find (d := d) hX hm hl (fun h => ⟨_, rfl, wp_asI0 ?_⟩) (fun j hj h => ⟨_, rfl, wp_asI0 ?_⟩)))) <;> rw [h] at k
  · refine wp_if (fun _ => ?_) (fun q => absurd (by decide) q)
    exact wp_eq (e206_2 ..) (wp_eq (e206_3 ..) (wp_gd (.inl rfl) (wp_ret k)))
  · refine wp_if (fun q => absurd q (io_neg (by omega))) (fun _ => ?_)
    exact wp_eq (e206_1 ..) (wp_eq (e206_3 ..) (wp_gd (.inr rfl) (wp_ret k)))
theorem io_pos {j : Nat} (h : j < 2147483648) : 0 ≤ Int32.ofNat j := by
  rw [show (0 : Int32) = Int32.ofNat 0 from rfl, io_le (by decide) h]
  omega
theorem xc_number {T σ : z_St} {A : w_A} (hX : w_X T σ A) {P : w_P} (hm : x_msg σ P) (hl : (pN P).length ≤ 80) (hc1 : 1 ≤ pC P) (hc : pC P ≤ 8) {code : Int32} (hq : ∀ q, fn_find (pN P) code = some q → q.2.1 + 4 ≤ 600) {d : Nat} {Q : z_St → Option z_V → Prop} (k : Q σ (some (.inr (.inl (fn_n (vI A 64) P code))))) : wp (zD (d + 2) 207 [.inr (.inr (some (3, 0))), .inl code] σ) Q := by
  unfold fn_n at k
  refine wp_eq (c207 ..) (wp_eq (e207_0 ..) (wp_cr (xc_find (d := d) hX hm hl (fun h => ⟨_, rfl, wp_asI0 ?_⟩) (fun j hj h => ⟨_, rfl, wp_asI0 ?_⟩)))) <;> rw [h] at k
  · refine wp_if (fun q => absurd q (by decide)) (fun _ => ?_)
    exact wp_eq (e207_1 ..) (wp_eq (e207_3 ..) (wp_ret k))
  · refine wp_if (fun _ => ?_) (fun q => absurd (io_pos (by omega)) q)
    have hb := hq _ h
    refine wp_eq (e207_2 ..) (wp_dr (rx_p3_9 hX) (wp_gd aty_77597200 (wp_gd ?_ ?_)))
    · rw [alen_77597200]; exact zin_io (by omega) (by decide)
    dsimp only
    rw [io_nat (by omega), (hm.2.2.2.2.2.2.2.2.2 j hj).2.1]
    refine wp_cr (xc_get (d := d) (n := 4) hX hc1 hc hm.1 hb rfl rfl ⟨_, rfl, wp_eq (e207_3 ..) (wp_ret ?_)⟩)
    rw [gw4u]
    exact k
/-- a text, compared with octets that came -/
theorem xl_isIn {T σ : z_St} {A : w_A} (hX : w_X T σ A) {d c t a n : Nat} (hc1 : 1 ≤ c) (hc : c ≤ 8) {l : List Int32} (ht : x_txt σ t l) (hl : l.length ≤ 40) (ha : a + n ≤ 600) (hn : l.length = n) {Q : z_St → Option z_V → Prop} (k : Q σ (some (.inl (b2i (fn_text (vI A 64) c a n = l))))) : ∀ (m j : Nat), j + m = n → (∀ i, (h : i < l.length) → i < j → l[i] = vI A 64 (600 * c + (a + i))) →
    wp (E xP244 (zD d) 4 [some (.inr (.inr (some (1, t)))), some (.inr (.inr (some (73419537, c)))), some (.inl (Int32.ofNat a)), some (.inl (Int32.ofNat n)), some (.inl 1), some (.inl (Int32.ofNat j))] [] σ) Q
  | 0, j, hj, hf => by
    refine wp_eq (e244_4 ..) (wp_if (fun h => ?_) (fun h => ?_)) <;> rw [io_le (by omega) (by omega)] at h
    · refine wp_eq (e244_10 ..) (wp_gd (.inr rfl) (wp_ret ?_))
      rw [b2i_t] at k
      · exact k
      · unfold fn_text
        apply List.ext_getElem
        · rw [List.length_map, List.length_range]; omega
        · intro i h1 h2
          rw [List.getElem_map, List.getElem_range]
          exact (hf i h2 (by omega)).symm
    · omega
  | m + 1, j, hj, hf => by
    refine wp_eq (e244_4 ..) (wp_if (fun h => ?_) (fun h => ?_)) <;> rw [io_le (by omega) (by omega)] at h
    · omega
    · refine wp_eq (e244_5 ..) (wp_if (fun h => absurd h (by decide)) (fun _ => ?_))
      refine wp_eq (e244_6 ..) (wp_dr (rx_p1_0 hX t) (wp_gd aty_80741649 (wp_gd ?_ (wp_dr rfl (wp_gd aty_73419537 (wp_gd ?_ ?_))))))
      · rw [alen_80741649]; exact zin_io (by omega) (by decide)
      · show zin (Int32.ofNat a + Int32.ofNat j) (aLen 73419537)
        rw [alen_73419537, io_add]; exact zin_io (by omega) (by decide)
      dsimp only
      rw [io_add, io_nat (by omega), io_nat (by omega), ht.2 j (by omega), rx_I hX c hc1 hc (a + j) (by omega)]
      refine wp_if (fun q => ?_) (fun q => ?_)
      · refine wp_eq (e244_7 ..) (wp_eq (e244_9 ..) ?_)
        rw [io_add_l]
        refine xl_isIn hX hc1 hc ht hl ha hn k m (j + 1) (by omega) fun i hi hij => ?_
        by_cases e : i = j
        · subst e; exact q
        · exact hf i hi (by omega)
      · refine wp_eq (e244_8 ..) (wp_eq (e244_9 ..) ?_)
        rw [io_add_l]
        have hk : Q σ (some (.inl 0)) := by
          rw [b2i_f] at k
          · exact k
          · intro e
            apply q
            have hj2 : j < l.length := by omega
            have : l[j]? = (fn_text (vI A 64) c a n)[j]? := by rw [e]
            rw [List.getElem?_eq_getElem hj2] at this
            unfold fn_text at this
            rw [List.getElem?_map, List.getElem?_range (by omega)] at this
            exact Option.some.inj this
        refine wp_eq (e244_4 ..) (wp_if (fun h => ?_) (fun h => ?_))
        · exact wp_eq (e244_10 ..) (wp_gd (.inl rfl) (wp_ret hk))
        · exact wp_eq (e244_5 ..) (wp_if (fun _ => wp_eq (e244_10 ..) (wp_gd (.inl rfl) (wp_ret hk))) (fun h => absurd rfl h))
theorem xc_isIn_ {T σ : z_St} {A : w_A} (hX : w_X T σ A) {d c t a n : Nat} (hc1 : 1 ≤ c) (hc : c ≤ 8) {l : List Int32} (ht : x_txt σ t l) (hl : l.length ≤ 40) (ha : a + n ≤ 600) {Q : z_St → Option z_V → Prop} (k : Q σ (some (.inl (b2i (fn_text (vI A 64) c a n = l))))) : wp (zD (d + 1) 244 [.inr (.inr (some (1, t))), .inr (.inr (some (73419537, c))), .inl (Int32.ofNat a), .inl (Int32.ofNat n)] σ) Q := by
  refine wp_eq (c244 ..) (wp_eq (e244_0 ..) (wp_if (fun h => ?_) (fun h => ?_))) <;> rw [ht.1, io_inj (by omega) (by omega)] at h
  · exact wp_eq (e244_1 ..) (wp_eq (e244_3 ..) (xl_isIn hX hc1 hc ht hl ha h k n 0 (by omega) fun i hi q => absurd q (by omega)))
  · have hk : Q σ (some (.inl 0)) := by
      rw [b2i_f] at k
      · exact k
      · intro e
        apply h
        rw [← e]
        unfold fn_text
        rw [List.length_map, List.length_range]
    refine wp_eq (e244_2 ..) (wp_eq (e244_3 ..) ?_)
    refine wp_eq (e244_4 ..) (wp_if (fun h => ?_) (fun h => ?_))
    · exact wp_eq (e244_10 ..) (wp_gd (.inl rfl) (wp_ret hk))
    · exact wp_eq (e244_5 ..) (wp_if (fun _ => wp_eq (e244_10 ..) (wp_gd (.inl rfl) (wp_ret hk))) (fun h => absurd rfl h))
theorem xc_isText {T σ : z_St} {A : w_A} (hX : w_X T σ A) {P : w_P} (hm : x_msg σ P) (hl : (pN P).length ≤ 80) (hc1 : 1 ≤ pC P) (hc : pC P ≤ 8) {code : Int32} (hq : ∀ q, fn_find (pN P) code = some q → q.2.1 + q.2.2 ≤ 600) {t : Nat} {l : List Int32} (ht : x_txt σ t l) (hl4 : l.length ≤ 40) {d : Nat} {Q : z_St → Option z_V → Prop} (k : Q σ (some (.inl (b2i (fn_isT (vI A 64) P code l = true))))) : wp (zD (d + 2) 208 [.inr (.inr (some (3, 0))), .inl code, .inr (.inr (some (1, t)))] σ) Q := by
  unfold fn_isT at k
  refine wp_eq (c208 ..) (wp_eq (e208_0 ..) (wp_cr (xc_find (d := d) hX hm hl (fun h => ⟨_, rfl, wp_asI0 ?_⟩) (fun j hj h => ⟨_, rfl, wp_asI0 ?_⟩)))) <;> rw [h] at k
  · refine wp_if (fun _ => ?_) (fun q => absurd (by decide) q)
    dsimp only at k
    rw [b2i_f (by decide)] at k
    exact wp_eq (e208_3 ..) (wp_eq (e208_4 ..) (wp_gd (.inl rfl) (wp_ret k)))
  · refine wp_if (fun q => absurd q (io_neg (by omega))) (fun _ => ?_)
    have hb := hq _ h
    have h10 := hm.2.2.2.2.2.2.2.2.2 j hj
    refine wp_eq (e208_1 ..) (wp_dr (rx_p3_9 hX) (wp_gd aty_77597200 (wp_gd ?_ (wp_dr (rx_p3_10 hX) (wp_gd aty_78645776 (wp_gd ?_ (wp_dr rfl (wp_cr ?_))))))))
    · rw [alen_77597200]; exact zin_io (by omega) (by decide)
    · rw [alen_78645776]; exact zin_io (by omega) (by decide)
    dsimp only
    rw [io_nat (by omega), h10.2.1, h10.2.2, hm.1]
    refine xc_isIn_ (d := d) hX hc1 hc ht hl4 hb ⟨_, rfl, ?_⟩
    dsimp only at k
    simp only [decide_eq_true_eq] at k
    refine wp_if (fun q => ?_) (fun q => ?_) <;> rw [b2i_0] at q
    · rw [b2i_f q] at k
      exact wp_eq (e208_3 ..) (wp_eq (e208_4 ..) (wp_gd (.inl rfl) (wp_ret k)))
    · rw [b2i_t (Classical.not_not.mp q)] at k
      exact wp_eq (e208_2 ..) (wp_eq (e208_4 ..) (wp_gd (.inr rfl) (wp_ret k)))
/-! what the head says -/
theorem xl_rules {T σ : z_St} {A : w_A} (hX : w_X T σ A) {d : Nat} {cmd : Int32} (hcmd : gI σ 3 4 0 = cmd) {Q : z_St → Option z_V → Prop} (k0 : (∀ i, i < 4 → ¬ z_codes.getD i 0 = cmd) → Q σ (some (.inr (.inr none)))) (k1 : ∀ i, i < 4 → z_codes.getD i 0 = cmd → Q σ (some (.inr (.inr (some (12, i)))))) : ∀ (m j : Nat), j + m = 4 → (∀ i, i < j → ¬ z_codes.getD i 0 = cmd) →
    wp (E xP211 (zD d) 3 [some (.inr (.inr (some (3, 0)))), some (.inl (Int32.ofNat j))] [] σ) Q
  | 0, j, hj, hf => by
    refine wp_eq (e211_3 ..) (wp_if (fun h => ?_) (fun h => ?_)) <;> rw [io_lle (by omega) (by decide)] at h
    · exact wp_eq (e211_7 ..) (wp_ret (k0 fun i hi => hf i (by omega)))
    · have h : ¬ 4 ≤ j := h
      omega
  | m + 1, j, hj, hf => by
    refine wp_eq (e211_3 ..) (wp_if (fun h => ?_) (fun h => ?_)) <;> rw [io_lle (by omega) (by decide)] at h
    · have h : 4 ≤ j := h
      omega
    · have hz : zin (Int32.ofNat j) (aLen 75497658) := by rw [alen_75497658]; exact zin_io (by omega) (by decide)
      have hcm := rx_cmds hX j (by omega)
      refine wp_eq (e211_4 ..) (wp_dr (rx_p3_0 hX) (wp_gd (by rw [aty_75497658]; decide) (wp_gd hz ?_)))
      dsimp only
      rw [io_nat (by omega)]
      refine wp_dr hcm (wp_gd ⟨rfl, by show j < 5; omega⟩ ?_)
      dsimp only
      rw [hcmd]
      refine wp_if (fun h => ?_) (fun h => ?_)
      · refine wp_eq (e211_5 ..) (wp_dr (rx_p3_0 hX) (wp_gd (by rw [aty_75497658]; decide) (wp_gd hz (wp_ret ?_))))
        dsimp only
        rw [io_nat (by omega), hcm]
        exact k1 j (by omega) h
      · refine wp_eq (e211_6 ..) ?_
        rw [io_add_l]
        refine xl_rules hX hcmd k0 k1 m (j + 1) (by omega) fun i hi => ?_
        by_cases e : i = j
        · subst e; exact h
        · exact hf i (by omega)
/-- which of the commands a message is -/
def fn_ci (fl cmd : Int32) : Option Nat := if fl &&& 128 = 0 then some 4 else if cmd = 257 then some 0 else if cmd = 280 then some 1 else if cmd = 282 then some 2 else if cmd = 272 then some 3 else none
theorem xc_rules {T σ : z_St} {A : w_A} (hX : w_X T σ A) {d : Nat} {fl cmd : Int32} (hfl : gI σ 3 3 0 = fl) (hcmd : gI σ 3 4 0 = cmd) {Q : z_St → Option z_V → Prop} (k : Q σ (some (.inr (.inr ((fn_ci fl cmd).map fun i => (12, i)))))) : wp (zD (d + 2) 211 [.inr (.inr (some (3, 0)))] σ) Q := by
  unfold fn_ci at k
  refine wp_eq (c211 ..) (wp_eq (e211_0 ..) (wp_cr (xc_isReq (d := d) hfl ⟨_, rfl, wp_asI0 ?_⟩)))
  refine wp_if (fun h => ?_) (fun h => ?_) <;> rw [b2i_0] at h
  · rw [if_pos (Classical.not_not.mp h)] at k
    exact wp_eq (e211_1 ..) (wp_ret k)
  · rw [if_neg (fun e => h (fun g => g e))] at k
    refine wp_eq (e211_2 ..) (xl_rules hX hcmd (fun hn => ?_) (fun i hi he => ?_) 4 0 rfl (fun i hi => absurd hi (by omega)))
    · rw [if_neg (fun e => hn 0 (by decide) e.symm), if_neg (fun e => hn 1 (by decide) e.symm), if_neg (fun e => hn 2 (by decide) e.symm), if_neg (fun e => hn 3 (by decide) e.symm)] at k
      exact k
    · subst he
      match i, hi with
      | 0, _ => exact k
      | 1, _ => exact k
      | 2, _ => exact k
      | 3, _ => exact k
theorem xc_headWrong {T σ : z_St} {A : w_A} (hX : w_X T σ A) (hP : vP A = none) {K : w_P} (hc1 : 1 ≤ pC K) (hc : pC K ≤ 8) (hm : x_msg σ (z_mk K 0 0 [])) {d : Nat} {Q : z_St → Option z_V → Prop}
    (kw : ∀ σ w, w_X T σ A → x_msg σ (z_mk K w 0 []) → (w = if vI A 64 (600 * pC K) ≠ 1 then 5011 else if fn_ci (pF K) (pM K) = none then 3001 else if ¬ pF K &&& 128 = 0 ∧ pA_ K ≠ z_apps.getD ((fn_ci (pF K) (pM K)).getD 0) 0 then 3007 else 3008) → (vI A 64 (600 * pC K) ≠ 1 ∨ fn_ci (pF K) (pM K) = none ∨ (¬ pF K &&& 128 = 0 ∧ pA_ K ≠ z_apps.getD ((fn_ci (pF K) (pM K)).getD 0) 0) ∨ (¬ pF K &&& 15 = 0 ∨ (¬ pF K &&& 128 = 0 ∧ ¬ pF K &&& 32 = 0))) → Q σ (some (.inl 1)))
    (k0 : ¬ (vI A 64 (600 * pC K) ≠ 1 ∨ fn_ci (pF K) (pM K) = none ∨ (¬ pF K &&& 128 = 0 ∧ pA_ K ≠ z_apps.getD ((fn_ci (pF K) (pM K)).getD 0) 0) ∨ (¬ pF K &&& 15 = 0 ∨ (¬ pF K &&& 128 = 0 ∧ ¬ pF K &&& 32 = 0))) → Q σ (some (.inl 0))) :
    wp (zD (d + 2) 212 [.inr (.inr (some (3, 0))), .inr (.inr ((fn_ci (pF K) (pM K)).map fun i => (12, i)))] σ) Q := by
  have hpt : gR σ 3 1 0 = some (73419537, pC K) := hm.1
  have hfl : gI σ 3 3 0 = pF K := hm.2.1
  have hap : gI σ 3 5 0 = pA_ K := hm.2.2.2.1
  have wr : ∀ w, (w = if vI A 64 (600 * pC K) ≠ 1 then 5011 else if fn_ci (pF K) (pM K) = none then 3001 else if ¬ pF K &&& 128 = 0 ∧ pA_ K ≠ z_apps.getD ((fn_ci (pF K) (pM K)).getD 0) 0 then 3007 else 3008) → (vI A 64 (600 * pC K) ≠ 1 ∨ fn_ci (pF K) (pM K) = none ∨ (¬ pF K &&& 128 = 0 ∧ pA_ K ≠ z_apps.getD ((fn_ci (pF K) (pM K)).getD 0) 0) ∨ (¬ pF K &&& 15 = 0 ∨ (¬ pF K &&& 128 = 0 ∧ ¬ pF K &&& 32 = 0))) → wp (zD (d + 1) 201 [.inr (.inr (some (3, 0))), .inl w, .inl 0] σ) (fun σ r => ∃ v, r = some v ∧ wp (asI v fun i4 => gd (i4 = 0 ∨ i4 = 1) (some (σ, some (.inl i4)))) Q) :=
    fun w hw hh => xc_wrong (d := d) hX hP hm fun σ hX hm => ⟨_, rfl, wp_asI0 (wp_gd (.inr rfl) (wp_ret (kw σ w hX hm hw hh)))⟩
  refine wp_eq (c212 ..) (wp_eq (e212_0 ..) (wp_dr hpt (wp_gd aty_73419537 (wp_gd ?_ ?_))))
  · show zin 0 (aLen 73419537)
    rw [alen_73419537]; exact zin_io (k := 0) (by decide) (by decide)
  dsimp only
  rw [show (0 : Int32).toNatClampNeg = 0 from rfl, rx_I hX _ hc1 hc 0 (by decide), Nat.add_zero]
  refine wp_if (fun h1 => ?_) (fun h1 => wp_eq (e212_1 ..) (wp_cr (wr _ (by rw [if_pos h1]) (.inl h1))))
  have h1' : ¬ vI A 64 (600 * pC K) ≠ 1 := fun q => q h1
  refine wp_eq (e212_2 ..) ?_
  cases hci : fn_ci (pF K) (pM K) with
  | none =>
    rw [hci] at wr
    refine wp_if (fun _ => wp_eq (e212_3 ..) (wp_cr (wr _ (by rw [if_neg h1', if_pos rfl]) (.inr (.inl rfl))))) (fun q => absurd rfl q)
  | some i =>
    rw [hci] at wr kw k0
    have hi5 : i < 5 := by
      unfold fn_ci at hci
      split at hci
      · injection hci with h; omega
      · split at hci
        · injection hci with h; omega
        · split at hci
          · injection hci with h; omega
          · split at hci
            · injection hci with h; omega
            · split at hci
              · injection hci with h; omega
              · exact absurd hci (by simp)
    have hsome : ¬ (some i = (none : Option Nat)) := by simp
    refine wp_if (fun q => absurd q (by simp)) (fun _ => ?_)
    have tail : ∀ σ', σ' = σ → ¬ (¬ pF K &&& 128 = 0 ∧ pA_ K ≠ z_apps.getD i 0) → wp (E xP212 (zD (d + 1)) 7 [some (.inr (.inr (some (3, 0)))), none] [] σ') Q := by
      rintro σ' rfl h3
      have wr2 : (¬ pF K &&& 15 = 0 ∨ (¬ pF K &&& 128 = 0 ∧ ¬ pF K &&& 32 = 0)) → wp (E xP212 (zD (d + 1)) 10 [some (.inr (.inr (some (3, 0)))), none] [] σ') Q := by
        intro h4
        refine wp_eq (e212_10 ..) (wp_cr (xc_wrong (d := d) hX hP hm fun σ hX hm => ⟨_, rfl, wp_asI0 (wp_if (fun q => absurd q (by decide)) fun _ => wp_eq (e212_11 ..) (wp_eq (e212_13 ..) (wp_gd (.inr rfl) (wp_ret (kw σ 3008 hX hm ?_ (.inr (.inr (.inr h4))))))))⟩))
        rw [if_neg h1', if_neg hsome]
        exact (if_neg h3).symm
      have k0' : ¬ (¬ pF K &&& 15 = 0 ∨ (¬ pF K &&& 128 = 0 ∧ ¬ pF K &&& 32 = 0)) → Q σ' (some (.inl 0)) := fun h4 => k0 (fun q => by
        rcases q with q | q | q | q
        · exact h1' q
        · exact hsome q
        · exact h3 q
        · exact h4 q)
      refine wp_eq (e212_7 ..) (wp_if (fun h => ?_) (fun h => ?_)) <;> rw [hfl] at h
      · refine wp_eq (e212_8 ..) (wp_cr (xc_isReq (d := d) hfl ⟨_, rfl, wp_asI0 ?_⟩))
        refine wp_if (fun q => ?_) (fun q => ?_) <;> rw [b2i_0] at q
        · exact wp_eq (e212_12 ..) (wp_eq (e212_13 ..) (wp_gd (.inl rfl) (wp_ret (k0' (fun g => g.elim (fun g => g h) (fun g => q g.1))))))
        · refine wp_eq (e212_9 ..) (wp_if (fun g => ?_) (fun g => ?_)) <;> rw [hfl] at g
          · exact wp_eq (e212_12 ..) (wp_eq (e212_13 ..) (wp_gd (.inl rfl) (wp_ret (k0' (fun x => x.elim (fun x => x h) (fun x => x.2 g))))))
          · exact wr2 (.inr ⟨Classical.not_not.mp q, g⟩)
      · exact wr2 (.inl h)
    refine wp_eq (e212_4 ..) (wp_cr (xc_isReq (d := d) hfl ⟨_, rfl, wp_asI0 ?_⟩))
    refine wp_if (fun q => ?_) (fun q => ?_) <;> rw [b2i_0] at q
    · exact tail σ rfl (fun g => q g.1)
    · refine wp_eq (e212_5 ..) (wp_dr rfl (wp_gd ⟨rfl, hi5⟩ (wp_if (fun g => ?_) (fun g => ?_)))) <;> rw [hap] at g
      · exact tail σ rfl (fun x => x.2 g)
      · exact wp_eq (e212_6 ..) (wp_cr (wr _ (by rw [if_neg h1', if_neg hsome, if_pos ⟨Classical.not_not.mp q, g⟩]) (.inr (.inr (.inl ⟨Classical.not_not.mp q, g⟩)))))
/-! what it lacks -/
theorem xl_lack2 {T σ : z_St} {A : w_A} (hX : w_X T σ A) (hP : vP A = none) {K : w_P} {l : List w_Q} (hl : l.length ≤ 80) (hm : x_msg σ (z_mk K 0 0 l)) {d i : Nat} (hi : i < 5) {Q : z_St → Option z_V → Prop}
    (kw : ∀ σ w, w_X T σ A → x_msg σ (z_mk K 5009 w l) → ¬ pF K &&& 128 = 0 → ((z_wants.getD i []).find? fun w => decide (w ≠ 0 ∧ w ≠ 258 ∧ 1 < fn_many l w)) = some w → Q σ (some (.inl 1)))
    (k0 : (¬ pF K &&& 128 = 0 → ((z_wants.getD i []).find? fun w => decide (w ≠ 0 ∧ w ≠ 258 ∧ 1 < fn_many l w)) = none) → Q σ (some (.inl 0))) : ∀ (m j : Nat), j + m = 5 → (¬ pF K &&& 128 = 0 → (((z_wants.getD i []).drop j).find? fun w => decide (w ≠ 0 ∧ w ≠ 258 ∧ 1 < fn_many l w)) = ((z_wants.getD i []).find? fun w => decide (w ≠ 0 ∧ w ≠ 258 ∧ 1 < fn_many l w))) →
    wp (E xP213 (zD (d + 1)) 7 [some (.inr (.inr (some (3, 0)))), none, some (.inr (.inr (some (13, i)))), some (.inl 5), some (.inl (Int32.ofNat j)), none] [] σ) Q
  | 0, j, hj, hf => by
    have hlen : (z_wants.getD i []).length = 5 := by
      match i, hi with
      | 0, _ => rfl
      | 1, _ => rfl
      | 2, _ => rfl
      | 3, _ => rfl
      | 4, _ => rfl
    refine wp_eq (e213_7 ..) (wp_if (fun h => ?_) (fun h => ?_)) <;> rw [io_lle (by omega) (by decide)] at h
    · refine wp_eq (e213_14 ..) (wp_ret (k0 fun q => ?_))
      rw [← hf q, show j = (z_wants.getD i []).length by omega, List.drop_length]
      rfl
    · have h : ¬ 5 ≤ j := h
      omega
  | m + 1, j, hj, hf => by
    have hlen : (z_wants.getD i []).length = 5 := by
      match i, hi with
      | 0, _ => rfl
      | 1, _ => rfl
      | 2, _ => rfl
      | 3, _ => rfl
      | 4, _ => rfl
    have hjl : j < (z_wants.getD i []).length := by omega
    have hfl : gI σ 3 3 0 = pF K := hm.2.1
    have hg : (z_wants.getD i []).getD j 0 = (z_wants.getD i [])[j] := by rw [List.getD_eq_getElem?_getD, List.getElem?_eq_getElem hjl]; rfl
    have next : (¬ pF K &&& 128 = 0 → ¬ ((z_wants.getD i [])[j] ≠ 0 ∧ (z_wants.getD i [])[j] ≠ 258 ∧ 1 < fn_many l (z_wants.getD i [])[j])) → wp (E xP213 (zD (d + 1)) 13 [some (.inr (.inr (some (3, 0)))), none, some (.inr (.inr (some (13, i)))), some (.inl 5), some (.inl (Int32.ofNat j)), none] [] σ) Q := by
      intro hn
      refine wp_eq (e213_13 ..) ?_
      rw [io_add_l]
      refine xl_lack2 hX hP hl hm hi kw k0 m (j + 1) (by omega) fun q => ?_
      have := hf q
      rw [List.drop_eq_getElem_cons hjl, List.find?_cons, decide_eq_false (hn q)] at this
      exact this
    refine wp_eq (e213_7 ..) (wp_if (fun h => ?_) (fun h => ?_)) <;> rw [io_lle (by omega) (by decide)] at h
    · have h : 5 ≤ j := h
      omega
    · refine wp_eq (e213_8 ..) (wp_dr rfl (wp_gd ⟨rfl, hi⟩ (wp_gd (zin_io (by omega) (by decide)) (wp_cr (xc_isReq (d := d) hfl ⟨_, rfl, ?_⟩)))))
      dsimp only
      rw [io_nat (by omega), hg]
      refine wp_if (fun q => ?_) (fun q => ?_) <;> rw [b2i_0] at q
      · exact next fun g => absurd g q
      · have q := Classical.not_not.mp q
        refine wp_eq (e213_9 ..) (wp_if (fun g => next fun _ x => x.1 g) fun g1 => ?_)
        refine wp_eq (e213_10 ..) (wp_if (fun g => next fun _ x => x.2.1 g) fun g2 => ?_)
        refine wp_eq (e213_11 ..) (wp_cr (xc_many (d := d) hX hm hl ⟨_, rfl, ?_⟩))
        have hml : fn_many l (z_wants.getD i [])[j] ≤ l.length := List.length_filter_le _ _
        have hpn : pN (z_mk K 0 0 l) = l := rfl
        rw [hpn]
        refine wp_if (fun g => ?_) (fun g => ?_) <;> rw [io_le_l (by omega) (by decide)] at g
        · exact next fun _ x => by have g : fn_many l (z_wants.getD i [])[j] ≤ 1 := g; omega
        · refine wp_eq (e213_12 ..) (wp_cr (xc_wrong (d := d) hX hP hm fun σ hX hm => ⟨_, rfl, wp_asI0 (wp_gd (.inr rfl) (wp_ret (kw σ _ hX hm q ?_)))⟩))
          have g : ¬ fn_many l (z_wants.getD i [])[j] ≤ 1 := g
          rw [← hf q, List.drop_eq_getElem_cons hjl, List.find?_cons, decide_eq_true ⟨g1, g2, by omega⟩]
theorem xl_lack1 {T σ : z_St} {A : w_A} (hX : w_X T σ A) (hP : vP A = none) {K : w_P} {l : List w_Q} (hl : l.length ≤ 80) (hm : x_msg σ (z_mk K 0 0 l)) {d i : Nat} (hi : i < 5) {Q : z_St → Option z_V → Prop}
    (kw : ∀ σ w, w_X T σ A → x_msg σ (z_mk K 5005 w l) → ((z_wants.getD i []).find? fun w => decide (w ≠ 0 ∧ (fn_find l w).isNone = true)) = some w → Q σ (some (.inl 1)))
    (k0 : ((z_wants.getD i []).find? fun w => decide (w ≠ 0 ∧ (fn_find l w).isNone = true)) = none → wp (E xP213 (zD (d + 2)) 6 [some (.inr (.inr (some (3, 0)))), some (.inr (.inr (some (12, i)))), none, none, none, none] [] σ) Q) : ∀ (m j : Nat), j + m = 5 → (((z_wants.getD i []).drop j).find? fun w => decide (w ≠ 0 ∧ (fn_find l w).isNone = true)) = ((z_wants.getD i []).find? fun w => decide (w ≠ 0 ∧ (fn_find l w).isNone = true)) →
    wp (E xP213 (zD (d + 2)) 1 [some (.inr (.inr (some (3, 0)))), some (.inr (.inr (some (12, i)))), some (.inr (.inr (some (13, i)))), some (.inl 5), some (.inl (Int32.ofNat j)), none] [] σ) Q
  | 0, j, hj, hf => by
    have hlen : (z_wants.getD i []).length = 5 := by
      match i, hi with
      | 0, _ => rfl
      | 1, _ => rfl
      | 2, _ => rfl
      | 3, _ => rfl
      | 4, _ => rfl
    refine wp_eq (e213_1 ..) (wp_if (fun h => ?_) (fun h => ?_)) <;> rw [io_lle (by omega) (by decide)] at h
    · refine k0 ?_
      rw [← hf, show j = (z_wants.getD i []).length by omega, List.drop_length]
      rfl
    · have h : ¬ 5 ≤ j := h
      omega
  | m + 1, j, hj, hf => by
    have hlen : (z_wants.getD i []).length = 5 := by
      match i, hi with
      | 0, _ => rfl
      | 1, _ => rfl
      | 2, _ => rfl
      | 3, _ => rfl
      | 4, _ => rfl
    have hjl : j < (z_wants.getD i []).length := by omega
    have hg : (z_wants.getD i []).getD j 0 = (z_wants.getD i [])[j] := by rw [List.getD_eq_getElem?_getD, List.getElem?_eq_getElem hjl]; rfl
    have next : ¬ ((z_wants.getD i [])[j] ≠ 0 ∧ (fn_find l (z_wants.getD i [])[j]).isNone = true) → wp (E xP213 (zD (d + 2)) 5 [some (.inr (.inr (some (3, 0)))), some (.inr (.inr (some (12, i)))), some (.inr (.inr (some (13, i)))), some (.inl 5), some (.inl (Int32.ofNat j)), none] [] σ) Q := by
      intro hn
      refine wp_eq (e213_5 ..) ?_
      rw [io_add_l]
      refine xl_lack1 hX hP hl hm hi kw k0 m (j + 1) (by omega) ?_
      rw [List.drop_eq_getElem_cons hjl, List.find?_cons, decide_eq_false hn] at hf
      exact hf
    refine wp_eq (e213_1 ..) (wp_if (fun h => ?_) (fun h => ?_)) <;> rw [io_lle (by omega) (by decide)] at h
    · have h : 5 ≤ j := h
      omega
    · refine wp_eq (e213_2 ..) (wp_dr rfl (wp_gd ⟨rfl, hi⟩ (wp_gd (zin_io (by omega) (by decide)) ?_)))
      dsimp only
      rw [io_nat (by omega), hg]
      refine wp_if (fun g => next fun x => x.1 g) fun g1 => ?_
      refine wp_eq (e213_3 ..) (wp_cr (xc_has (d := d) hX hm hl ⟨_, rfl, wp_asI0 ?_⟩))
      have hpn : pN (z_mk K 0 0 l) = l := rfl
      rw [hpn]
      refine wp_if (fun q => ?_) (fun q => ?_) <;> rw [b2i_0] at q
      · refine wp_eq (e213_4 ..) (wp_cr (xc_wrong (d := d + 1) hX hP hm fun σ hX hm => ⟨_, rfl, wp_asI0 (wp_gd (.inr rfl) (wp_ret (kw σ _ hX hm ?_)))⟩))
        have hnone : (fn_find l (z_wants.getD i [])[j]).isNone = true := by
          cases hff : fn_find l (z_wants.getD i [])[j] with
          | none => rfl
          | some _ => rw [hff] at q; exact absurd rfl q
        rw [← hf, List.drop_eq_getElem_cons hjl, List.find?_cons, decide_eq_true ⟨g1, hnone⟩]
      · exact next fun x => q (fun e => by
          have hx := x.2
          rw [Option.isNone_iff_eq_none] at hx
          rw [hx] at e
          exact absurd e (by decide))
theorem find_flt {p : Int32 → Bool} : ∀ (l : List Int32), (l.find? fun w => decide (w ≠ 0) && p w) = (l.filter fun w => decide (w ≠ 0)).find? p
  | [] => rfl
  | a :: l => by
    rw [List.find?_cons, List.filter_cons]
    by_cases h : a ≠ 0
    · rw [if_pos (decide_eq_true h), List.find?_cons, decide_eq_true h, Bool.true_and, find_flt l]
    · rw [if_neg (by rw [decide_eq_false h]; decide), decide_eq_false h, Bool.false_and, find_flt l]
theorem find_w1 (l : List w_Q) (ws : List Int32) : (ws.find? fun w => decide (w ≠ 0 ∧ (fn_find l w).isNone = true)) = (ws.filter fun w => decide (w ≠ 0)).find? fun w => (fn_find l w).isNone := by
  rw [← find_flt]
  congr 1
  funext w
  rw [Bool.decide_and]
  congr 1
  cases (fn_find l w).isNone <;> rfl
theorem find_w2 (l : List w_Q) (ws : List Int32) : (ws.find? fun w => decide (w ≠ 0 ∧ w ≠ 258 ∧ 1 < fn_many l w)) = (ws.filter fun w => decide (w ≠ 0)).find? fun w => decide (w ≠ 258 ∧ 1 < fn_many l w) := by
  rw [← find_flt]
  congr 1
  funext w
  rw [Bool.decide_and]
theorem ci_wants {fl cmd : Int32} {i : Nat} (h : fn_ci fl cmd = some i) : i < 5 ∧ ((z_wants.getD i []).filter fun w => decide (w ≠ 0)) = fn_wants (decide (¬ fl &&& 128 = 0)) cmd ∧ (¬ fl &&& 128 = 0 → z_apps.getD i 0 = if cmd = 272 then 4 else 0) := by
  unfold fn_ci at h
  unfold fn_wants
  by_cases h0 : fl &&& 128 = 0
  · rw [if_pos h0] at h
    injection h with h
    subst h
    exact ⟨by decide, by rw [decide_eq_false (fun e => e h0)]; rfl, fun e => absurd h0 e⟩
  · rw [if_neg h0] at h
    rw [decide_eq_true h0]
    by_cases h1 : cmd = 257
    · rw [if_pos h1] at h
      injection h with h
      subst h h1
      exact ⟨by decide, by decide, fun _ => by decide⟩
    rw [if_neg h1] at h
    by_cases h2 : cmd = 280
    · rw [if_pos h2] at h
      injection h with h
      subst h h2
      exact ⟨by decide, by decide, fun _ => by decide⟩
    rw [if_neg h2] at h
    by_cases h3 : cmd = 282
    · rw [if_pos h3] at h
      injection h with h
      subst h h3
      exact ⟨by decide, by decide, fun _ => by decide⟩
    rw [if_neg h3] at h
    by_cases h4 : cmd = 272
    · rw [if_pos h4] at h
      injection h with h
      subst h h4
      exact ⟨by decide, by decide, fun _ => by decide⟩
    · rw [if_neg h4] at h
      exact absurd h (by simp)
theorem ci_none {fl cmd : Int32} : fn_ci fl cmd = none ↔ (¬ fl &&& 128 = 0 ∧ ¬ (cmd = 257 ∨ cmd = 280 ∨ cmd = 282 ∨ cmd = 272)) := by
  unfold fn_ci
  by_cases h0 : fl &&& 128 = 0
  · simp [h0]
  · by_cases h1 : cmd = 257
    · simp [h0, h1]
    · by_cases h2 : cmd = 280
      · simp [h0, h2]
      · by_cases h3 : cmd = 282
        · simp [h0, h3]
        · by_cases h4 : cmd = 272
          · simp [h0, h4]
          · simp [h0, h1, h2, h3, h4]
theorem xc_lacking {T σ : z_St} {A : w_A} (hX : w_X T σ A) (hP : vP A = none) {K : w_P} {l : List w_Q} (hl : l.length ≤ 80) (hm : x_msg σ (z_mk K 0 0 l)) {i : Nat} (hi : fn_ci (pF K) (pM K) = some i) {d : Nat} {Q : z_St → Option z_V → Prop}
    (k : ∀ σ v, w_X T σ A → x_msg σ (z_mk K (fn_lack l (decide (¬ pF K &&& 128 = 0)) (fn_wants (decide (¬ pF K &&& 128 = 0)) (pM K))).1 (fn_lack l (decide (¬ pF K &&& 128 = 0)) (fn_wants (decide (¬ pF K &&& 128 = 0)) (pM K))).2 l) → v = some (.inl 0) ∨ v = some (.inl 1) → Q σ v) :
    wp (zD (d + 3) 213 [.inr (.inr (some (3, 0))), .inr (.inr (some (12, i)))] σ) Q := by
  obtain ⟨hi5, hw, -⟩ := ci_wants hi
  unfold fn_lack at k
  rw [← hw] at k
  refine wp_eq (c213 ..) (wp_eq (e213_0 ..) (wp_dr rfl (wp_gd ⟨rfl, hi5⟩ (wp_gd ⟨rfl, hi5⟩ ?_))))
  refine xl_lack1 (d := d) hX hP hl hm hi5 (fun σ w hX hm hf => ?_) (fun hf => ?_) 5 0 rfl rfl
  · rw [find_w1] at hf
    rw [hf] at k
    exact k σ _ hX hm (.inr rfl)
  · rw [find_w1] at hf
    rw [hf] at k
    refine wp_eq (e213_6 ..) (wp_dr rfl (wp_gd ⟨rfl, hi5⟩ (wp_gd ⟨rfl, hi5⟩ ?_)))
    refine xl_lack2 (d := d + 1) hX hP hl hm hi5 (fun σ w hX hm hr hf => ?_) (fun hf => ?_) 5 0 rfl (fun _ => rfl)
    · rw [find_w2] at hf
      dsimp only at k
      rw [if_pos (decide_eq_true hr), hf] at k
      exact k σ _ hX hm (.inr rfl)
    · dsimp only at k
      by_cases hr : ¬ pF K &&& 128 = 0
      · have hf := hf hr
        rw [find_w2] at hf
        rw [if_pos (decide_eq_true hr), hf] at k
        exact k σ _ hX hm (.inl rfl)
      · rw [if_neg (by rw [decide_eq_false hr]; decide)] at k
        exact k σ _ hX hm (.inl rfl)
theorem xw_P {T σ : z_St} {A : w_A} (h : w_X T σ A) {P : w_P} (hm : x_msg σ P) : w_X T σ (sP A (some P)) := by
  obtain ⟨hT, hA, hB, hC, hD, hE, hF, hG, hH, hI, hJ, hK, hL, hM, hN⟩ := h
  refine ⟨hT, hA, hB, hC, hD, hE, hF, hG, hH, hI, hJ, hK, hL, fun P' e => ?_, hN⟩
  have e : some P = some P' := e
  injection e with e
  rw [← e]
  exact hm
/-- how many attributes a message has at most -/
theorem walk_len (r : Nat → Int32) (c : Nat) : ∀ (f k e d : Nat) (acc : List w_Q), e ≤ 600 → (8 * acc.length + 20 ≤ k ∧ k ≤ 600 ∨ e ≤ k ∧ 8 * acc.length + 20 ≤ 600) → 8 * (fn_walk r c f k e d acc).2.length + 20 ≤ 600
  | 0, k, e, d, acc, he, h => by
    show 8 * acc.length + 20 ≤ 600
    omega
  | f + 1, k, e, d, acc, he, h => by
    have ih := fun k acc => walk_len r c f k e d acc he
    have ha : 8 * acc.length + 20 ≤ 600 := by omega
    rw [walk_s]
    by_cases h1 : e ≤ k
    · rw [if_pos h1]; exact ha
    rw [if_neg h1]
    by_cases h2 : e - k < 8
    · rw [if_pos h2]; exact ha
    rw [if_neg h2]
    by_cases h3 : nl r c k < fn_hs r c k ∨ e - k < nl r c k
    · rw [if_pos h3]; exact ha
    rw [if_neg h3]
    have h8 := (hs_ge r c k).1
    by_cases h4 : u8 r c (k + 4) &&& 31 ≠ 0
    · rw [if_pos h4]; exact ha
    rw [if_neg h4]
    by_cases h5 : fn_kd r c k = 0
    · rw [if_pos h5]
      by_cases h6 : u8 r c (k + 4) &&& 64 ≠ 0
      · rw [if_pos h6]; exact ha
      · rw [if_neg h6]
        refine ih _ _ ?_
        omega
    rw [if_neg h5]
    by_cases h7 : ¬ fn_fits (fn_kd r c k) (nl r c k - 8) ∨ (fn_kd r c k = 5 ∧ d = 3)
    · rw [if_pos h7]; exact ha
    rw [if_neg h7]
    by_cases h8 : fn_kd r c k = 5 ∧ (fn_walk r c f (k + 8) (k + nl r c k) (d + 1) []).1.1 ≠ 0
    · rw [if_pos h8]; exact ha
    rw [if_neg h8]
    refine ih _ _ ?_
    split
    · rw [List.length_append]
      show 8 * (acc.length + 1) + 20 ≤ _ ∧ _ ∨ _ ∧ 8 * (acc.length + 1) + 20 ≤ 600
      omega
    · omega
theorem rx_len {r : Nat → Int32} {c n : Nat} (hn : n ≤ 600) : (fn_walk r c 601 20 n 0 []).2.length ≤ 72 := by
  have := walk_len r c 601 20 n 0 [] hn (.inl ⟨Nat.le_refl 20, by decide⟩)
  omega
theorem u8_nb {r : Nat → Int32} (h : ∀ k, nb (r k) = r k) (c : Nat) : (r (600 * c) = 1) ↔ (u8 r c 0 = 1) := by
  unfold u8
  rw [Nat.add_zero]
  constructor
  · intro e; rw [e]; decide
  · intro e
    have hx := h (600 * c)
    generalize r (600 * c) = x at *
    have h9 : ∀ i : Fin 256, (Int8.ofBitVec (BitVec.ofFin i)).toInt32 &&& 255 = 1 → (Int8.ofBitVec (BitVec.ofFin i)).toInt32 = 1 := by decide +kernel
    have h8 : ∀ y : Int8, y.toInt32 &&& 255 = 1 → y.toInt32 = 1 := fun y => h9 y.toBitVec.toFin
    rw [← hx] at e ⊢
    exact h8 _ e
theorem xc_read {T σ : z_St} {A : w_A} (hX : w_X T σ A) (hP : vP A = none) {c n : Nat} (hc1 : 1 ≤ c) (hc : c ≤ 8) (hn0 : 20 ≤ n) (hn : n ≤ 600) (hb : ∀ k, nb (vI A 64 k) = vI A 64 k) {d : Nat} {Q : z_St → Option z_V → Prop} (k : ∀ σ, w_X T σ (sP A (some (fn_read (vI A 64) c n))) → Q σ none) :
    wp (zD (d + 9) 214 [.inr (.inr (some (3, 0))), .inr (.inr (some (73419537, c))), .inl (Int32.ofNat n)] σ) Q := by
  generalize hr : vI A 64 = r at *
  let K : w_P := (c, n, u8 r c 4, n3 r c 5, n4 r c 8, n4 r c 12, n4 r c 16, 0, 0, [])
  have fin : ∀ σ w x l, w_X T σ A → x_msg σ (z_mk K w x l) → fn_read r c n = z_mk K w x l → wp (E xP214 (zD (d + 8)) 5 [none, none, none, none, none] [.inl 0] σ) Q ∧ wp (E xP214 (zD (d + 8)) 5 [none, none, none, none, none] [.inl 1] σ) Q := by
    intro σ w x l hX hm e
    have h1 : Q σ none := k σ (by rw [e]; exact xw_P hX hm)
    exact ⟨wp_eq (e214_5 ..) (wp_ret h1), wp_eq (e214_5 ..) (wp_ret h1)⟩
  refine wp_eq (c214 ..) (wp_eq (e214_0 ..) ?_)
  have hX := xw3R hX hP (some (73419537, c))
  have p1 : gR (wR σ 3 1 0 (some (73419537, c))) 3 1 0 = some (73419537, c) := rfl
  refine wp_sw ?_
  generalize wR σ 3 1 0 (some (73419537, c)) = σ at *
  have hX := xw3 hX hP 2 0 (Int32.ofNat n)
  have p1 : gR (wI σ 3 2 0 (Int32.ofNat n)) 3 1 0 = some (73419537, c) := p1
  have q2 : gI (wI σ 3 2 0 (Int32.ofNat n)) 3 2 0 = Int32.ofNat n := rfl
  refine wp_sw ?_
  generalize wI σ 3 2 0 (Int32.ofNat n) = σ at *
  refine wp_dr rfl (wp_gd aty_73419537 (wp_gd (by rw [alen_73419537]; exact zin_io (k := 4) (by decide) (by decide)) ?_))
  dsimp only
  have o4 : gI σ 73419537 c (Int32.toNatClampNeg 4) &&& 255 = u8 r c 4 := by
    rw [show Int32.toNatClampNeg 4 = 4 from rfl, rx_I hX c hc1 hc 4 (by decide), hr]
    rfl
  rw [o4]
  have hX := xw3 hX hP 3 0 (u8 r c 4)
  have p1 : gR (wI σ 3 3 0 (u8 r c 4)) 3 1 0 = some (73419537, c) := p1
  have q2 : gI (wI σ 3 3 0 (u8 r c 4)) 3 2 0 = Int32.ofNat n := q2
  have q3 : gI (wI σ 3 3 0 (u8 r c 4)) 3 3 0 = u8 r c 4 := rfl
  refine wp_sw ?_
  generalize wI σ 3 3 0 (u8 r c 4) = σ at *
  refine wp_cr (xc_get (d := d + 7) (a := 5) (n := 3) hX hc1 hc p1 (by decide) rfl rfl ⟨_, rfl, wp_asJ0 ?_⟩)
  refine wp_sw ?_
  rw [hr, gw3]
  have hX := xw3 hX hP 4 0 (n3 r c 5)
  have p1 : gR (wI σ 3 4 0 (n3 r c 5)) 3 1 0 = some (73419537, c) := p1
  have q2 : gI (wI σ 3 4 0 (n3 r c 5)) 3 2 0 = Int32.ofNat n := q2
  have q3 : gI (wI σ 3 4 0 (n3 r c 5)) 3 3 0 = u8 r c 4 := q3
  have q4 : gI (wI σ 3 4 0 (n3 r c 5)) 3 4 0 = n3 r c 5 := rfl
  generalize wI σ 3 4 0 (n3 r c 5) = σ at *
  refine wp_cr (xc_get (d := d + 7) (a := 8) (n := 4) hX hc1 hc p1 (by decide) rfl rfl ⟨_, rfl, wp_asJ0 ?_⟩)
  refine wp_sw ?_
  rw [hr, gw4]
  have hX := xw3 hX hP 5 0 (n4 r c 8)
  have p1 : gR (wI σ 3 5 0 (n4 r c 8)) 3 1 0 = some (73419537, c) := p1
  have q2 : gI (wI σ 3 5 0 (n4 r c 8)) 3 2 0 = Int32.ofNat n := q2
  have q3 : gI (wI σ 3 5 0 (n4 r c 8)) 3 3 0 = u8 r c 4 := q3
  have q4 : gI (wI σ 3 5 0 (n4 r c 8)) 3 4 0 = n3 r c 5 := q4
  have q5 : gI (wI σ 3 5 0 (n4 r c 8)) 3 5 0 = n4 r c 8 := rfl
  generalize wI σ 3 5 0 (n4 r c 8) = σ at *
  refine wp_cr (xc_get (d := d + 7) (a := 12) (n := 4) hX hc1 hc p1 (by decide) rfl rfl ⟨_, rfl, wp_asJ0 ?_⟩)
  refine wp_sw ?_
  rw [hr, gw4]
  have hX := xw3 hX hP 6 0 (n4 r c 12)
  have p1 : gR (wI σ 3 6 0 (n4 r c 12)) 3 1 0 = some (73419537, c) := p1
  have q2 : gI (wI σ 3 6 0 (n4 r c 12)) 3 2 0 = Int32.ofNat n := q2
  have q3 : gI (wI σ 3 6 0 (n4 r c 12)) 3 3 0 = u8 r c 4 := q3
  have q4 : gI (wI σ 3 6 0 (n4 r c 12)) 3 4 0 = n3 r c 5 := q4
  have q5 : gI (wI σ 3 6 0 (n4 r c 12)) 3 5 0 = n4 r c 8 := q5
  have q6 : gI (wI σ 3 6 0 (n4 r c 12)) 3 6 0 = n4 r c 12 := rfl
  generalize wI σ 3 6 0 (n4 r c 12) = σ at *
  refine wp_cr (xc_get (d := d + 7) (a := 16) (n := 4) hX hc1 hc p1 (by decide) rfl rfl ⟨_, rfl, wp_asJ0 ?_⟩)
  rw [hr, gw4]
  refine wp_sw (wp_sw (wp_sw (wp_sw ?_)))
  have hX := xw3 (xw3 (xw3 (xw3 hX hP 7 0 (n4 r c 16)) hP 11 0 0) hP 12 0 0) hP 13 0 0
  have hm : x_msg (wI (wI (wI (wI σ 3 7 0 (n4 r c 16)) 3 11 0 0) 3 12 0 0) 3 13 0 0) (z_mk K 0 0 []) := ⟨p1, q3, q4, q5, q6, rfl, rfl, rfl, rfl, fun j hj => absurd hj (by show ¬ j < 0; omega)⟩
  have q2 : gI (wI (wI (wI (wI σ 3 7 0 (n4 r c 16)) 3 11 0 0) 3 12 0 0) 3 13 0 0) 3 2 0 = Int32.ofNat n := q2
  generalize wI (wI (wI (wI σ 3 7 0 (n4 r c 16)) 3 11 0 0) 3 12 0 0) 3 13 0 0 = σ at *
  have hreq : ∀ x : Int32, (x &&& 128 ≠ 0) = ¬ (x &&& 128 = 0) := fun _ => rfl
  refine wp_cr (xc_rules (d := d + 6) hX hm.2.1 hm.2.2.1 ⟨_, rfl, ?_⟩)
  rw [asR_mk]
  have hu := u8_nb hb c
  refine wp_cr (xc_headWrong (d := d + 6) (K := K) hX hP hc1 hc hm (fun σ w hX hm hw hh => ⟨_, rfl, wp_asI0 ?_⟩) (fun hh => ⟨_, rfl, wp_asI0 ?_⟩))
  · refine wp_if (fun q => absurd q (by decide)) (fun _ => wp_eq (e214_3 ..) (fin σ w 0 [] hX hm ?_).2)
    rw [hr] at hw hh
    unfold fn_read
    dsimp only
    by_cases h1 : r (600 * c) = 1
    · have h1' : ¬ (u8 r c 0 ≠ 1) := fun q => q (hu.mp h1)
      have h1'' : ¬ (r (600 * pC K) ≠ 1) := fun q => q h1
      rw [if_neg h1'] 
      rw [if_neg h1''] at hw
      by_cases h2 : fn_ci (pF K) (pM K) = none
      · rw [if_pos h2] at hw
        rw [if_pos (show u8 r c 4 &&& 128 ≠ 0 ∧ ¬ (n3 r c 5 = 257 ∨ n3 r c 5 = 280 ∨ n3 r c 5 = 282 ∨ n3 r c 5 = 272) from ci_none.mp h2), hw]
        rfl
      · rw [if_neg h2] at hw
        rw [if_neg (show ¬ (u8 r c 4 &&& 128 ≠ 0 ∧ ¬ (n3 r c 5 = 257 ∨ n3 r c 5 = 280 ∨ n3 r c 5 = 282 ∨ n3 r c 5 = 272)) from fun q => h2 (ci_none.mpr q))]
        obtain ⟨i, hi⟩ := Option.ne_none_iff_exists'.mp h2
        obtain ⟨hi5, hw2, ha⟩ := ci_wants hi
        rw [hi] at hw hh
        by_cases h3 : ¬ pF K &&& 128 = 0 ∧ pA_ K ≠ z_apps.getD ((some i).getD 0) 0
        · rw [if_pos h3] at hw
          have h3' : ¬ (u8 r c 4 &&& 128 = 0) ∧ n4 r c 8 ≠ (if n3 r c 5 = 272 then 4 else 0) := ⟨h3.1, by have h := ha h3.1; intro g; exact h3.2 ((show pA_ K = if pM K = 272 then 4 else 0 from g).trans h.symm)⟩
          rw [if_pos h3', hw]
          rfl
        · rw [if_neg h3] at hw
          have h3' : ¬ (¬ (u8 r c 4 &&& 128 = 0) ∧ n4 r c 8 ≠ (if n3 r c 5 = 272 then 4 else 0)) := fun q => h3 ⟨q.1, by have := ha q.1; show n4 r c 8 ≠ z_apps.getD i 0; rw [this]; exact q.2⟩
          rw [if_neg h3', hw]
          rcases hh with q | q | q | q
          · exact absurd q h1''
          · exact absurd q (by simp)
          · exact absurd q h3
          · rw [if_pos (show u8 r c 4 &&& 15 ≠ 0 ∨ (u8 r c 4 &&& 128 ≠ 0 ∧ u8 r c 4 &&& 32 ≠ 0) from q)]
            rfl
    · have h1' : u8 r c 0 ≠ 1 := fun q => h1 (hu.mpr q)
      rw [if_pos h1'] 
      rw [if_pos (show r (600 * pC K) ≠ 1 from h1)] at hw
      rw [hw]
      rfl
  · rw [hr] at hh
    refine wp_if (fun _ => ?_) (fun q => absurd rfl q)
    have h1 : r (600 * c) = 1 := Classical.byContradiction fun q => hh (.inl q)
    have h1' : ¬ (u8 r c 0 ≠ 1) := fun q => q (hu.mp h1)
    have h2 : ¬ fn_ci (pF K) (pM K) = none := fun q => hh (.inr (.inl q))
    obtain ⟨i, hi⟩ := Option.ne_none_iff_exists'.mp h2
    obtain ⟨hi5, hw2, ha⟩ := ci_wants hi
    rw [hi] at hh
    have h3' : ¬ (¬ (u8 r c 4 &&& 128 = 0) ∧ n4 r c 8 ≠ (if n3 r c 5 = 272 then 4 else 0)) := fun q => hh (.inr (.inr (.inl ⟨q.1, by have := ha q.1; show n4 r c 8 ≠ z_apps.getD i 0; rw [this]; exact q.2⟩)))
    have h4' : ¬ (u8 r c 4 &&& 15 ≠ 0 ∨ (u8 r c 4 &&& 128 ≠ 0 ∧ u8 r c 4 &&& 32 ≠ 0)) := fun q => hh (.inr (.inr (.inr q)))
    have hrd : fn_read r c n = if (fn_walk r c 601 20 n 0 []).1.1 ≠ 0 then z_mk K (fn_walk r c 601 20 n 0 []).1.1 (fn_walk r c 601 20 n 0 []).1.2 (fn_walk r c 601 20 n 0 []).2 else z_mk K (fn_lack (fn_walk r c 601 20 n 0 []).2 (decide (u8 r c 4 &&& 128 ≠ 0)) (fn_wants (decide (u8 r c 4 &&& 128 ≠ 0)) (n3 r c 5))).1 (fn_lack (fn_walk r c 601 20 n 0 []).2 (decide (u8 r c 4 &&& 128 ≠ 0)) (fn_wants (decide (u8 r c 4 &&& 128 ≠ 0)) (n3 r c 5))).2 (fn_walk r c 601 20 n 0 []).2 := by
      unfold fn_read
      dsimp only
      rw [if_neg h1', if_neg (show ¬ (u8 r c 4 &&& 128 ≠ 0 ∧ ¬ (n3 r c 5 = 257 ∨ n3 r c 5 = 280 ∨ n3 r c 5 = 282 ∨ n3 r c 5 = 272)) from fun q => h2 (ci_none.mpr q)), if_neg h3', if_neg h4']
      rfl
    have hl := rx_len (r := r) (c := c) hn
    refine wp_eq (e214_1 ..) (wp_cr (xc_walk (d := d) (K := K) (c := c) rfl hc1 hc hP hn hX hm q2 (fun σ hw hX hm => ⟨_, rfl, wp_asI0 ?_⟩) (fun σ hw hX hm => ⟨_, rfl, wp_asI0 ?_⟩)))
    · rw [hr] at hw hm
      refine wp_if (fun _ => ?_) (fun q => absurd rfl q)
      rw [if_neg (fun q => q hw)] at hrd
      have hi' : fn_ci (pF (z_mk K 0 0 [])) (pM (z_mk K 0 0 [])) = some i := hi
      rw [hi']
      refine wp_eq (e214_2 ..) (wp_cr (xc_lacking (d := d + 5) (K := K) hX hP (by omega) hm hi (fun σ v hX hm hv => ?_)))
      have ff := fin σ _ _ _ hX hm hrd
      rcases hv with hv | hv
      · exact ⟨_, hv, wp_asI0 (wp_if (fun _ => wp_eq (e214_4 ..) ff.1) (fun q => absurd rfl q))⟩
      · exact ⟨_, hv, wp_asI0 (wp_if (fun q => absurd q (by decide)) (fun _ => wp_eq (e214_3 ..) ff.2))⟩
    · rw [hr] at hw hm
      refine wp_if (fun q => absurd q (by decide)) (fun _ => wp_eq (e214_3 ..) (fin σ _ _ _ hX hm ?_).2)
      rw [hrd, if_pos hw]
