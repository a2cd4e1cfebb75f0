/-! PART 41 (src 41.xpage.src): the component's page: what goes is made -/
set_option maxHeartbeats 100000
theorem xc_text {T σ : z_St} {A : w_A} {l : List Int32} (hX : w_X T σ (fn_page A l)) {d : Nat} {c : Int32} {t : Nat} {m : List Int32} (ht : ∀ σ l, w_X T σ (fn_page A l) → x_txt σ t m) (hm : m.length ≤ 40) (h4 : l.length % 4 = 0) (hl : l.length + 51 ≤ 700) {Q : z_St → Option z_V → Prop} (k : ∀ σ, w_X T σ (fn_page A (l ++ fn_txt c m)) → Q σ none) : wp (zD (d + 3) 224 [.inr (.inr (some (2, 0))), .inl c, .inr (.inr (some (1, t)))] σ) Q := by
  refine wp_eq (c224 ..) (wp_eq (e224_0 ..) ?_)
  simp only [dr_some, (ht _ _ hX).1, gd_true]
  refine cvX (fun Q' k => xc_attr hX m.length rfl (by omega) k) fun σ hX => ?_
  have h1 := (ht _ _ hX).1
  have h2 := (ht _ _ hX).2
  have hp := rx_PG hX
  rw [List.length_append, fn_attr_len] at hp
  refine wp_dr (rx_p2_0 hX) (wp_dr (rx_p1_0 hX t) (wp_gd ⟨aty_80741649, aty_79714193⟩ ?_))
  rw [hp, h1]
  refine wp_gd ?_ (wp_sw (wp_sw ?_))
  · have a1 := alen_80741649
    have a2 := alen_79714193
    have a3 : Int32.toNatClampNeg 0 = 0 := by decide
    refine ⟨by decide, by rw [io_lt_l (by omega) (by decide)]; omega, by rw [io_lt_l (by omega) (by decide)]; omega, ?_, ?_⟩
    · rw [io_nat (by omega), a3]; show 0 + m.length ≤ aLen 80741649; rw [a1]; omega
    · rw [io_nat (by omega), io_nat (by omega)]; show l.length + 8 + m.length ≤ aLen 79714193; rw [a2]; omega
  rw [io_nat (show m.length < 2147483648 by omega), io_nat (show l.length + 8 < 2147483648 by omega)]
  rw [show gI (rI σ 79714193 0 (va_cpy (gI σ 80741649 t) (gI σ 79714193 0) (Int32.toNatClampNeg 0) (l.length + 8) m.length)) 2 1 0 = Int32.ofNat (l.length + 8) from hp, show gI (rI σ 79714193 0 (va_cpy (gI σ 80741649 t) (gI σ 79714193 0) (Int32.toNatClampNeg 0) (l.length + 8) m.length)) 1 1 t = Int32.ofNat m.length from h1, io_add]
  have hX2 := x_PGc hX (f := gI σ 80741649 t) (sp := 0) m (fun j hj => by rw [Nat.zero_add]; exact h2 j hj)
  rw [List.length_append, fn_attr_len] at hX2
  refine cvX (fun Q' k => xc_pad hX2 (by rw [List.length_append, List.length_append, fn_attr_len]; omega) k) fun σ hX => ?_
  refine wp_ret (k σ ?_)
  have e : (l ++ fn_attr c m.length ++ m ++ fn_pad (l ++ fn_attr c m.length ++ m).length) = l ++ fn_txt c m := by
    unfold fn_txt
    rw [List.length_append, List.length_append, fn_attr_len]
    have : fn_pad (l.length + 8 + m.length) = fn_pad m.length := by
      unfold fn_pad
      rw [show (l.length + 8 + m.length) % 4 = m.length % 4 by omega]
    rw [this]
    simp only [List.append_assoc]
  rw [← e]
  exact hX
