/-! PART 41 (src 41.xpage.src): the component's page: what goes is made -/
set_option maxHeartbeats 100000
theorem xc_addr {T σ : z_St} {A : w_A} {l : List Int32} (hX : w_X T σ (fn_page A l)) {d : Nat} (h4 : l.length % 4 = 0) (hl : l.length + 17 ≤ 700) {Q : z_St → Option z_V → Prop} (k : ∀ σ, w_X T σ (fn_page A (l ++ (fn_attr 257 6 ++ [0, 1, 127, 0, 0, 1, 0, 0]))) → Q σ none) : wp (zD (d + 3) 226 [.inr (.inr (some (2, 0)))] σ) Q := by
  refine wp_eq (c226 ..) (wp_eq (e226_0 ..) ?_)
  refine cvX (fun Q' k => xc_attr hX 6 rfl (by omega) k) fun σ hX => ?_
  refine cvX (fun Q' k => xc_put hX 6 rfl (by rw [List.length_append, fn_attr_len]; omega) (by omega) k) fun σ hX => ?_
  refine cvX (fun Q' k => xc_pad (l := l ++ fn_attr 257 6 ++ bJ 6425673729 6) hX (by rw [List.length_append, List.length_append, fn_attr_len, bJ_len]; omega) k) fun σ hX => ?_
  refine wp_ret (k σ ?_)
  have e : (l ++ fn_attr 257 6 ++ bJ 6425673729 6 ++ fn_pad (l ++ fn_attr 257 6 ++ bJ 6425673729 6).length) = l ++ (fn_attr 257 6 ++ [0, 1, 127, 0, 0, 1, 0, 0]) := by
    rw [List.length_append, List.length_append, fn_attr_len, bJ_len]
    have : fn_pad (l.length + 8 + 6) = [0, 0] := by
      unfold fn_pad
      rw [show (4 - (l.length + 8 + 6) % 4) % 4 = 2 by omega]
      rfl
    rw [this, List.append_assoc, List.append_assoc]
    rfl
  rw [← e]
  exact hX
/-- the head of a message -/
theorem xc_begin {T σ : z_St} {A : w_A} (hX : w_X T σ A) {d : Nat} {x1 x2 x3 x4 x5 : Int32} {Q : z_St → Option z_V → Prop} (k : ∀ σ, w_X T σ (fn_page A (fn_hd x1 x2 x3 x4 x5)) → Q σ none) : wp (zD (d + 2) 219 [.inr (.inr (some (2, 0))), .inl x1, .inl x2, .inl x3, .inl x4, .inl x5] σ) Q := by
  refine wp_eq (c219 ..) (wp_eq (e219_0 ..) ?_)
  simp only [sw]
  refine cvX (fun Q' k => xc_put (x_PG0 hX) 4 rfl (by decide) (by omega) k) fun σ hX => ?_
  refine cvX (fun Q' k => xc_put hX 1 rfl (by simp only [List.length_append, bJ_len, List.length_nil]; omega) (by omega) k) fun σ hX => ?_
  refine cvX (fun Q' k => xc_put hX 3 rfl (by simp only [List.length_append, bJ_len, List.length_nil]; omega) (by omega) k) fun σ hX => ?_
  refine cvX (fun Q' k => xc_put hX 4 rfl (by simp only [List.length_append, bJ_len, List.length_nil]; omega) (by omega) k) fun σ hX => ?_
  refine cvX (fun Q' k => xc_put hX 4 rfl (by simp only [List.length_append, bJ_len, List.length_nil]; omega) (by omega) k) fun σ hX => ?_
  refine cvX (fun Q' k => xc_put hX 4 rfl (by simp only [List.length_append, bJ_len, List.length_nil]; omega) (by omega) k) fun σ hX => ?_
  have hX2 := x_PGs hX 0 1
  have e1 : ([] ++ bJ 1 4 ++ bJ (Int32.toInt64 x1) 1 ++ bJ (Int32.toInt64 x2) 3 ++ bJ (Int32.toInt64 x3) 4 ++ bJ (Int32.toInt64 x4) 4 ++ bJ (Int32.toInt64 x5) 4).set 0 1 = 1 :: 0 :: 0 :: 1 :: (b1 x1 ++ (b3 x2 ++ (b4 x3 ++ (b4 x4 ++ b4 x5)))) := by
    rw [bJ_1, bJ_3, bJ_4, bJ_4, bJ_4, bJ_4, Int32.toInt32_toInt64, Int32.toInt32_toInt64, Int32.toInt32_toInt64, Int32.toInt32_toInt64, Int32.toInt32_toInt64]
    simp only [List.append_assoc]
    rfl
  have e2 : fn_hd x1 x2 x3 x4 x5 = 1 :: 0 :: 0 :: 0 :: (b1 x1 ++ (b3 x2 ++ (b4 x3 ++ (b4 x4 ++ b4 x5)))) := by
    unfold fn_hd
    simp only [List.append_assoc]
    rfl
  rw [e1] at hX2
  rw [e2] at k
  generalize b1 x1 ++ (b3 x2 ++ (b4 x3 ++ (b4 x4 ++ b4 x5))) = m at hX2 k
  refine wp_dr (rx_p2_0 hX) (wp_gd aty_79714193 (wp_gd ?_ (wp_ret (k _ (x_PGe hX2 rfl ?_)))))
  · show zin (Int32.ofNat 0) (aLen 79714193)
    rw [alen_79714193]
    exact zin_io (by omega) (by omega)
  intro k h1 h2 hne
  match k, hne with
  | 0, _ => rfl
  | 1, h => exact absurd ⟨by omega, by omega⟩ h
  | 2, h => exact absurd ⟨by omega, by omega⟩ h
  | 3, h => exact absurd ⟨by omega, by omega⟩ h
  | k + 4, _ => rfl
