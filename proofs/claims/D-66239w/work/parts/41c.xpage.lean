/-! PART 41 (src 41.xpage.src): the component's page: what goes is made -/
set_option maxHeartbeats 100000
theorem xc_units {T σ : z_St} {A : w_A} {l : List Int32} (hX : w_X T σ (fn_page A l)) {d : Nat} {c : Int32} {v : Int64} (hl : l.length + 24 ≤ 700) {Q : z_St → Option z_V → Prop} (k : ∀ σ, w_X T σ (fn_page A (l ++ (fn_attr c 16 ++ fn_attr 421 8 ++ b4 (v >>> 32).toInt32 ++ b4 v.toInt32))) → Q σ none) : wp (zD (d + 3) 227 [.inr (.inr (some (2, 0))), .inl c, .inr (.inl v)] σ) Q := by
  refine wp_eq (c227 ..) (wp_eq (e227_0 ..) ?_)
  refine cvX (fun Q' k => xc_attr hX 16 rfl (by omega) k) fun σ hX => ?_
  refine cvX (fun Q' k => xc_attr hX 8 rfl (by rw [List.length_append, fn_attr_len]; omega) k) fun σ hX => ?_
  refine cvX (fun Q' k => xc_put hX 8 rfl (by rw [List.length_append, List.length_append, fn_attr_len, fn_attr_len]; omega) (by omega) k) fun σ hX => ?_
  refine wp_ret (k σ ?_)
  rw [bJ_8] at hX
  simp only [List.append_assoc] at hX ⊢
  exact hX
theorem xc_failed {T σ : z_St} {A : w_A} {l : List Int32} (hX : w_X T σ (fn_page A l)) {d : Nat} {c : Int32} (hl : l.length + 16 ≤ 700) {Q : z_St → Option z_V → Prop} (k : ∀ σ, w_X T σ (fn_page A (l ++ (fn_attr 279 8 ++ fn_attr c 0))) → Q σ none) : wp (zD (d + 3) 228 [.inr (.inr (some (2, 0))), .inl c] σ) Q := by
  refine wp_eq (c228 ..) (wp_eq (e228_0 ..) ?_)
  refine cvX (fun Q' k => xc_attr hX 8 rfl (by omega) k) fun σ hX => ?_
  refine cvX (fun Q' k => xc_attr hX 0 rfl (by rw [List.length_append, fn_attr_len]; omega) k) fun σ hX => ?_
  refine wp_ret (k σ ?_)
  rw [List.append_assoc] at hX
  exact hX
