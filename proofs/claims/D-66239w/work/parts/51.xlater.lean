/-! PART 51 (src 51.xlater.src): the later one of two names -/
set_option maxHeartbeats 400000
def z_let (l : List Int32) : Prop := ∀ x ∈ l, nb x = x ∧ 0 ≤ x
theorem let_k {x : Int32} (h : nb x = x) (g : 0 ≤ x) : ∃ k, k < 128 ∧ x = Int32.ofNat k := by
  have e : x.toInt = x.toInt8.toInt := by
    have := congrArg Int32.toInt h
    unfold nb at this
    rw [Int8.toInt_toInt32] at this
    exact this.symm
  have h1 := Int8.toInt_lt x.toInt8
  have h2 : 0 ≤ x.toInt := by
    have := Int32.le_iff_toInt_le.mp g
    exact this
  refine ⟨x.toInt.toNat, by omega, ?_⟩
  apply Int32.toInt_inj.mp
  rw [io_toInt (by omega)]
  omega
theorem let_255 {x : Int32} (h : nb x = x) (g : 0 ≤ x) : x &&& 255 = x := by
  obtain ⟨k, hk, rfl⟩ := let_k h g
  have : ∀ k, k < 128 → (Int32.ofNat k &&& 255) = Int32.ofNat k := by decide +kernel
  exact this k hk
theorem xl_later {d t1 t2 : Nat} {l m : List Int32} {σ : z_St} (h1 : x_txt σ t1 l) (h2 : x_txt σ t2 m) (hp : ∀ i, gR σ 1 0 i = some (80741649, i)) (hl : l.length ≤ 40) (hm : m.length ≤ 40) (gl : z_let l) (gm : z_let m) {Q : z_St → Option z_V → Prop} (k : ∀ v, v = some (.inl (@b2i (fn_later l m) (fn_laterD l m))) → Q σ v) : ∀ (r i : Nat), i + r = l.length + 1 → i ≤ l.length → i ≤ m.length → (fn_later l m ↔ fn_later (l.drop i) (m.drop i)) →
    wp (E xP245 (zD d) 1 [some (.inr (.inr (some (1, t1)))), some (.inr (.inr (some (1, t2)))), some (.inl (Int32.ofNat i))] [] σ) Q
  | 0, i, hi, hil, him, hf => by omega
  | r + 1, i, hi, hil, him, hf => by
    have k1 : fn_later l m → Q σ (some (.inl 1)) := fun h => k _ (by rw [@b2i_t _ (fn_laterD l m) h])
    have k0 : ¬ fn_later l m → Q σ (some (.inl 0)) := fun h => k _ (by rw [@b2i_f _ (fn_laterD l m) h])
    have done : ¬ (i < l.length ∧ i < m.length ∧ l[i]? = m[i]?) → wp (E xP245 (zD d) 5 [some (.inr (.inr (some (1, t1)))), some (.inr (.inr (some (1, t2)))), some (.inl (Int32.ofNat i))] [] σ) Q := by
      intro hne
      refine wp_eq (e245_5 ..) (wp_if (fun hc => ?_) (fun hc => ?_)) <;> rw [h1.1, io_inj (by omega) (by omega)] at hc
      · refine wp_eq (e245_7 ..) (wp_dr rfl (wp_gd rfl (wp_if (fun hz => ?_) (fun hz => ?_)))) <;> rw [h1.1, h2.1, io_le (by omega) (by omega)] at hz
        · refine wp_eq (e245_9 ..) (wp_eq (e245_13 ..) (wp_gd (.inl rfl) (wp_ret (k0 ?_))))
          rw [hf, hc, List.drop_length]
          cases m.drop l.length <;> exact id
        · omega
      · refine wp_eq (e245_6 ..) (wp_dr rfl (wp_gd rfl (wp_if (fun hz => ?_) (fun hz => ?_)))) <;> rw [h2.1, io_inj (by omega) (by omega)] at hz
        · refine wp_eq (e245_7 ..) (wp_dr rfl (wp_gd rfl (wp_if (fun hy => ?_) (fun hy => ?_)))) <;> rw [h1.1, h2.1, io_le (by omega) (by omega)] at hy
          · omega
          · refine wp_eq (e245_8 ..) (wp_eq (e245_13 ..) (wp_gd (.inr rfl) (wp_ret (k1 ?_))))
            rw [hf, hz, List.drop_length, List.drop_eq_getElem_cons (show m.length < l.length by omega)]
            trivial
        · have a1 : i < l.length := by omega
          have a2 : i < m.length := by omega
          have hx := gl _ (List.getElem_mem a1)
          have hy := gm _ (List.getElem_mem a2)
          have hne : ¬ l[i] = m[i] := fun e => hne ⟨a1, a2, by rw [List.getElem?_eq_getElem a1, List.getElem?_eq_getElem a2, e]⟩
          have hlat : fn_later l m ↔ m[i] < l[i] := by
            rw [hf, List.drop_eq_getElem_cons a1, List.drop_eq_getElem_cons a2, fn_later, if_neg hne]
          refine wp_eq (e245_10 ..) (wp_dr (hp t1) (wp_gd aty_80741649 (wp_gd ?_ (wp_dr rfl (wp_gd rfl (wp_dr (hp t2) (wp_gd aty_80741649 (wp_gd ?_ ?_))))))))
          · show zin (Int32.ofNat i) (aLen 80741649)
            rw [alen_80741649]; exact zin_io (by omega) (by omega)
          · show zin (Int32.ofNat i) (aLen 80741649)
            rw [alen_80741649]; exact zin_io (by omega) (by omega)
          dsimp only
          refine wp_if (fun hw => ?_) (fun hw => ?_) <;> rw [io_nat (by omega), h1.2 i a1, h2.2 i a2, let_255 hx.1 hx.2, let_255 hy.1 hy.2] at hw
          · refine wp_eq (e245_12 ..) (wp_eq (e245_13 ..) (wp_gd (.inl rfl) (wp_ret (k0 ?_))))
            rw [hlat]
            exact Int32.not_lt.mpr hw
          · refine wp_eq (e245_11 ..) (wp_eq (e245_13 ..) (wp_gd (.inr rfl) (wp_ret (k1 ?_))))
            rw [hlat]
            exact Int32.not_le.mp hw
    refine wp_eq (e245_1 ..) (wp_if (fun hc => ?_) (fun hc => ?_)) <;> rw [h1.1, io_le (by omega) (by omega)] at hc
    · exact done (by omega)
    · refine wp_eq (e245_2 ..) (wp_dr rfl (wp_gd rfl (wp_if (fun hz => ?_) (fun hz => ?_)))) <;> rw [h2.1, io_le (by omega) (by omega)] at hz
      · exact done (by omega)
      · have a1 : i < l.length := by omega
        have a2 : i < m.length := by omega
        refine wp_eq (e245_3 ..) (wp_dr (hp t1) (wp_gd aty_80741649 (wp_gd ?_ (wp_dr rfl (wp_gd rfl (wp_dr (hp t2) (wp_gd aty_80741649 (wp_gd ?_ ?_))))))))
        · show zin (Int32.ofNat i) (aLen 80741649)
          rw [alen_80741649]; exact zin_io (by omega) (by omega)
        · show zin (Int32.ofNat i) (aLen 80741649)
          rw [alen_80741649]; exact zin_io (by omega) (by omega)
        dsimp only
        refine wp_if (fun hw => ?_) (fun hw => ?_) <;> rw [io_nat (by omega), h1.2 i a1, h2.2 i a2] at hw
        · refine wp_eq (e245_4 ..) ?_
          rw [io_add_l]
          refine xl_later h1 h2 hp hl hm gl gm k r (i + 1) (by omega) (by omega) (by omega) ?_
          rw [hf, List.drop_eq_getElem_cons a1, List.drop_eq_getElem_cons a2, fn_later, if_pos hw]
        · exact done (fun h => hw (by
            have := h.2.2
            rw [List.getElem?_eq_getElem a1, List.getElem?_eq_getElem a2] at this
            exact Option.some.inj this))
theorem xc_later {T σ : z_St} {A : w_A} (hX : w_X T σ A) {d p : Nat} (hp : p < 4) (hl : z_nm (vL A 1 0)) (hm : z_nm (vL A 2 p)) (gl : z_let (vL A 1 0)) (gm : z_let (vL A 2 p)) {Q : z_St → Option z_V → Prop} (k : ∀ v, v = some (.inl (b2i (fn_lt A p = true))) → Q σ v) : wp (zD (d + 1) 245 [.inr (.inr (some (1, 1))), .inr (.inr (some (1, 276 + p)))] σ) Q := by
  refine wp_eq (c245 ..) (wp_eq (e245_0 ..) ?_)
  refine xl_later (rx_HOST hX) (rx_PNAME hX p hp) (rx_p1_0 hX) hl.1 hm.1 gl gm (fun v hv => k v ?_) _ 0 (Nat.zero_add _) (Nat.zero_le _) (Nat.zero_le _) (by rw [List.drop_zero, List.drop_zero])
  rw [hv]
  congr 2
  unfold fn_lt b2i
  by_cases h : fn_later (vL A 1 0) (vL A 2 p)
  · rw [@if_pos _ (fn_laterD _ _) h, if_pos (@decide_eq_true _ (fn_laterD _ _) h)]
  · rw [@if_neg _ (fn_laterD _ _) h, if_neg (by rw [@decide_eq_false _ (fn_laterD _ _) h]; decide)]
