/-! PART 87a (src 87a.mread.src): the twin reads octets, sorts and sees attributes -/
set_option maxHeartbeats 800000
theorem mw8_67 {T σ : z_St} {A : w_A} (h : w_M T σ A) (hP : vP A = none) (x : Int32) : w_M T (wI σ 8 67 0 x) A := by
  obtain ⟨hT, hA, hB, hC, hD, hG, hH, hI, hJ, hK, hL, hM, hN⟩ := h
  exact ⟨m_T_wI hT (.inl rfl), hA, hB, hC, hD, hG, hH, hI, hJ, hK, hL, fun P e => absurd (hP.symm.trans e) (by simp), hN⟩
theorem mw8_68 {T σ : z_St} {A : w_A} (h : w_M T σ A) (hP : vP A = none) (x : Int32) : w_M T (wI σ 8 68 0 x) A := by
  obtain ⟨hT, hA, hB, hC, hD, hG, hH, hI, hJ, hK, hL, hM, hN⟩ := h
  exact ⟨m_T_wI hT (.inl rfl), hA, hB, hC, hD, hG, hH, hI, hJ, hK, hL, fun P e => absurd (hP.symm.trans e) (by simp), hN⟩
theorem mw8_69 {T σ : z_St} {A : w_A} (h : w_M T σ A) (hP : vP A = none) (x : Int32) : w_M T (wI σ 8 69 0 x) A := by
  obtain ⟨hT, hA, hB, hC, hD, hG, hH, hI, hJ, hK, hL, hM, hN⟩ := h
  exact ⟨m_T_wI hT (.inl rfl), hA, hB, hC, hD, hG, hH, hI, hJ, hK, hL, fun P e => absurd (hP.symm.trans e) (by simp), hN⟩
theorem mw8_70 {T σ : z_St} {A : w_A} (h : w_M T σ A) (hP : vP A = none) (x : Int32) : w_M T (wI σ 8 70 0 x) A := by
  obtain ⟨hT, hA, hB, hC, hD, hG, hH, hI, hJ, hK, hL, hM, hN⟩ := h
  exact ⟨m_T_wI hT (.inl rfl), hA, hB, hC, hD, hG, hH, hI, hJ, hK, hL, fun P e => absurd (hP.symm.trans e) (by simp), hN⟩
theorem mw8_71 {T σ : z_St} {A : w_A} (h : w_M T σ A) (hP : vP A = none) (x : Int32) : w_M T (wI σ 8 71 0 x) A := by
  obtain ⟨hT, hA, hB, hC, hD, hG, hH, hI, hJ, hK, hL, hM, hN⟩ := h
  exact ⟨m_T_wI hT (.inl rfl), hA, hB, hC, hD, hG, hH, hI, hJ, hK, hL, fun P e => absurd (hP.symm.trans e) (by simp), hN⟩
theorem mw8_72 {T σ : z_St} {A : w_A} (h : w_M T σ A) (hP : vP A = none) (x : Int32) : w_M T (wI σ 8 72 0 x) A := by
  obtain ⟨hT, hA, hB, hC, hD, hG, hH, hI, hJ, hK, hL, hM, hN⟩ := h
  exact ⟨m_T_wI hT (.inl rfl), hA, hB, hC, hD, hG, hH, hI, hJ, hK, hL, fun P e => absurd (hP.symm.trans e) (by simp), hN⟩
theorem mw8_73 {T σ : z_St} {A : w_A} (h : w_M T σ A) (hP : vP A = none) (x : Int32) : w_M T (wI σ 8 73 0 x) A := by
  obtain ⟨hT, hA, hB, hC, hD, hG, hH, hI, hJ, hK, hL, hM, hN⟩ := h
  exact ⟨m_T_wI hT (.inl rfl), hA, hB, hC, hD, hG, hH, hI, hJ, hK, hL, fun P e => absurd (hP.symm.trans e) (by simp), hN⟩
theorem mw8_74 {T σ : z_St} {A : w_A} (h : w_M T σ A) (hP : vP A = none) (x : Int32) : w_M T (wI σ 8 74 0 x) A := by
  obtain ⟨hT, hA, hB, hC, hD, hG, hH, hI, hJ, hK, hL, hM, hN⟩ := h
  exact ⟨m_T_wI hT (.inl rfl), hA, hB, hC, hD, hG, hH, hI, hJ, hK, hL, fun P e => absurd (hP.symm.trans e) (by simp), hN⟩
theorem mw8_75 {T σ : z_St} {A : w_A} (h : w_M T σ A) (hP : vP A = none) (x : Int32) : w_M T (wI σ 8 75 0 x) A := by
  obtain ⟨hT, hA, hB, hC, hD, hG, hH, hI, hJ, hK, hL, hM, hN⟩ := h
  exact ⟨m_T_wI hT (.inl rfl), hA, hB, hC, hD, hG, hH, hI, hJ, hK, hL, fun P e => absurd (hP.symm.trans e) (by simp), hN⟩
theorem mw8_80 {T σ : z_St} {A : w_A} (h : w_M T σ A) (hP : vP A = none) (x : Int32) : w_M T (wI σ 8 80 0 x) A := by
  obtain ⟨hT, hA, hB, hC, hD, hG, hH, hI, hJ, hK, hL, hM, hN⟩ := h
  exact ⟨m_T_wI hT (.inl rfl), hA, hB, hC, hD, hG, hH, hI, hJ, hK, hL, fun P e => absurd (hP.symm.trans e) (by simp), hN⟩
theorem mw8_81 {T σ : z_St} {A : w_A} (h : w_M T σ A) (hP : vP A = none) (x : Int32) : w_M T (wI σ 8 81 0 x) A := by
  obtain ⟨hT, hA, hB, hC, hD, hG, hH, hI, hJ, hK, hL, hM, hN⟩ := h
  exact ⟨m_T_wI hT (.inl rfl), hA, hB, hC, hD, hG, hH, hI, hJ, hK, hL, fun P e => absurd (hP.symm.trans e) (by simp), hN⟩
theorem mw8_82 {T σ : z_St} {A : w_A} (h : w_M T σ A) (hP : vP A = none) (x : Int32) : w_M T (wI σ 8 82 0 x) A := by
  obtain ⟨hT, hA, hB, hC, hD, hG, hH, hI, hJ, hK, hL, hM, hN⟩ := h
  exact ⟨m_T_wI hT (.inl rfl), hA, hB, hC, hD, hG, hH, hI, hJ, hK, hL, fun P e => absurd (hP.symm.trans e) (by simp), hN⟩
theorem mw8_83 {T σ : z_St} {A : w_A} (h : w_M T σ A) (hP : vP A = none) (x : Int32) : w_M T (wI σ 8 83 0 x) A := by
  obtain ⟨hT, hA, hB, hC, hD, hG, hH, hI, hJ, hK, hL, hM, hN⟩ := h
  exact ⟨m_T_wI hT (.inl rfl), hA, hB, hC, hD, hG, hH, hI, hJ, hK, hL, fun P e => absurd (hP.symm.trans e) (by simp), hN⟩
theorem mw8_84 {T σ : z_St} {A : w_A} (h : w_M T σ A) (hP : vP A = none) (x : Int32) : w_M T (wI σ 8 84 0 x) A := by
  obtain ⟨hT, hA, hB, hC, hD, hG, hH, hI, hJ, hK, hL, hM, hN⟩ := h
  exact ⟨m_T_wI hT (.inl rfl), hA, hB, hC, hD, hG, hH, hI, hJ, hK, hL, fun P e => absurd (hP.symm.trans e) (by simp), hN⟩
theorem mwA_66060688 {T σ : z_St} {A : w_A} (h : w_M T σ A) (hP : vP A = none) (n : Nat) (x : Int32) : w_M T (wI σ 66060688 0 n x) A := by
  obtain ⟨hT, hA, hB, hC, hD, hG, hH, hI, hJ, hK, hL, hM, hN⟩ := h
  exact ⟨m_T_wI hT (.inr (by decide)), hA, hB, hC, hD, hG, hH, hI, hJ, hK, hL, fun P e => absurd (hP.symm.trans e) (by simp), hN⟩
theorem mwA_67109264 {T σ : z_St} {A : w_A} (h : w_M T σ A) (hP : vP A = none) (n : Nat) (x : Int32) : w_M T (wI σ 67109264 0 n x) A := by
  obtain ⟨hT, hA, hB, hC, hD, hG, hH, hI, hJ, hK, hL, hM, hN⟩ := h
  exact ⟨m_T_wI hT (.inr (by decide)), hA, hB, hC, hD, hG, hH, hI, hJ, hK, hL, fun P e => absurd (hP.symm.trans e) (by simp), hN⟩
theorem mwA_68157840 {T σ : z_St} {A : w_A} (h : w_M T σ A) (hP : vP A = none) (n : Nat) (x : Int32) : w_M T (wI σ 68157840 0 n x) A := by
  obtain ⟨hT, hA, hB, hC, hD, hG, hH, hI, hJ, hK, hL, hM, hN⟩ := h
  exact ⟨m_T_wI hT (.inr (by decide)), hA, hB, hC, hD, hG, hH, hI, hJ, hK, hL, fun P e => absurd (hP.symm.trans e) (by simp), hN⟩
theorem mwA_69206192 {T σ : z_St} {A : w_A} (h : w_M T σ A) (hP : vP A = none) (n : Nat) (x : Int32) : w_M T (wI σ 69206192 0 n x) A := by
  obtain ⟨hT, hA, hB, hC, hD, hG, hH, hI, hJ, hK, hL, hM, hN⟩ := h
  exact ⟨m_T_wI hT (.inr (by decide)), hA, hB, hC, hD, hG, hH, hI, hJ, hK, hL, fun P e => absurd (hP.symm.trans e) (by simp), hN⟩
theorem mwA_70254768 {T σ : z_St} {A : w_A} (h : w_M T σ A) (hP : vP A = none) (n : Nat) (x : Int32) : w_M T (wI σ 70254768 0 n x) A := by
  obtain ⟨hT, hA, hB, hC, hD, hG, hH, hI, hJ, hK, hL, hM, hN⟩ := h
  exact ⟨m_T_wI hT (.inr (by decide)), hA, hB, hC, hD, hG, hH, hI, hJ, hK, hL, fun P e => absurd (hP.symm.trans e) (by simp), hN⟩
theorem mwA_71303344 {T σ : z_St} {A : w_A} (h : w_M T σ A) (hP : vP A = none) (n : Nat) (x : Int32) : w_M T (wI σ 71303344 0 n x) A := by
  obtain ⟨hT, hA, hB, hC, hD, hG, hH, hI, hJ, hK, hL, hM, hN⟩ := h
  exact ⟨m_T_wI hT (.inr (by decide)), hA, hB, hC, hD, hG, hH, hI, hJ, hK, hL, fun P e => absurd (hP.symm.trans e) (by simp), hN⟩
theorem rm_keys {T σ : z_St} {A : w_A} (h : w_M T σ A) : ∀ k, k < 12 → gI σ 65012112 0 k = z_keys.getD k 0 := h.2.1.2.2.2.2.2.2.2.2.2.2.2.2.2.2.2.2.2.2.2.2.2.2.2.2.2.2.2.2.2.2.2.2.2.2.2.2.2.2.2.2.2.2.2.2.2.2.2.2.2.2.2.2.2.2.2.2.2.2.2.2.2.2
theorem mw_oct {T σ : z_St} {A : w_A} (hM : w_M T σ A) {d c k : Nat} (hb : gI σ 8 67 0 = Int32.ofNat (600 * c)) (hc : c ≤ 8) (hk : k < 600) {x : Int32} (hx : x = Int32.ofNat k) {Q : z_St → Option z_V → Prop} (q : Q σ (some (.inl (u8 (vI A 64) c k)))) : wp (zD (d + 1) 105 [.inr (.inr (some (8, 0))), .inl x] σ) Q := by
  subst hx
  refine wp_eq (c105 ..) (wp_eq (e105_0 ..) (wp_ar (k := 600 * c + k) (rm_p29 hM) aty_31630097 alen_31630097 (by rw [hb, io_add]) (by omega) (by decide) ?_))
  dsimp only
  rw [hb, io_add, io_nat (by omega), rm_I hM _ (by omega)]
  exact wp_ret q
theorem mw_n4 {T σ : z_St} {A : w_A} (hM : w_M T σ A) {d c k : Nat} (hb : gI σ 8 67 0 = Int32.ofNat (600 * c)) (hc : c ≤ 8) (hk : k + 4 ≤ 600) {x : Int32} (hx : x = Int32.ofNat k) {Q : z_St → Option z_V → Prop} (q : Q σ (some (.inl (n4 (vI A 64) c k)))) : wp (zD (d + 2) 106 [.inr (.inr (some (8, 0))), .inl x] σ) Q := by
  subst hx
  refine wp_eq (c106 ..) (wp_eq (e106_0 ..) (wp_cr (mw_oct (d := d) hM hb hc (by omega) rfl ⟨_, rfl, wp_asI0 ?_⟩)))
  refine wp_cr (mw_oct (d := d) (k := k + 1) hM hb hc (by omega) (io_add_l k 1) ⟨_, rfl, wp_asI0 ?_⟩)
  refine wp_cr (mw_oct (d := d) (k := k + 2) hM hb hc (by omega) (io_add_l k 2) ⟨_, rfl, wp_asI0 ?_⟩)
  refine wp_cr (mw_oct (d := d) (k := k + 3) hM hb hc (by omega) (io_add_l k 3) ⟨_, rfl, wp_asI0 ?_⟩)
  rw [show (24 : Int32) &&& 31 = 24 from by decide, show (16 : Int32) &&& 31 = 16 from by decide, show (8 : Int32) &&& 31 = 8 from by decide]
  exact wp_ret q
theorem mw_n3 {T σ : z_St} {A : w_A} (hM : w_M T σ A) {d c k : Nat} (hb : gI σ 8 67 0 = Int32.ofNat (600 * c)) (hc : c ≤ 8) (hk : k + 3 ≤ 600) {x : Int32} (hx : x = Int32.ofNat k) {Q : z_St → Option z_V → Prop} (q : Q σ (some (.inl (n3 (vI A 64) c k)))) : wp (zD (d + 2) 107 [.inr (.inr (some (8, 0))), .inl x] σ) Q := by
  subst hx
  refine wp_eq (c107 ..) (wp_eq (e107_0 ..) (wp_cr (mw_oct (d := d) hM hb hc (by omega) rfl ⟨_, rfl, wp_asI0 ?_⟩)))
  refine wp_cr (mw_oct (d := d) (k := k + 1) hM hb hc (by omega) (io_add_l k 1) ⟨_, rfl, wp_asI0 ?_⟩)
  refine wp_cr (mw_oct (d := d) (k := k + 2) hM hb hc (by omega) (io_add_l k 2) ⟨_, rfl, wp_asI0 ?_⟩)
  rw [show (16 : Int32) &&& 31 = 16 from by decide, show (8 : Int32) &&& 31 = 8 from by decide]
  exact wp_ret q
theorem mw_n8 {T σ : z_St} {A : w_A} (hM : w_M T σ A) {d c k : Nat} (hb : gI σ 8 67 0 = Int32.ofNat (600 * c)) (hc : c ≤ 8) (hk : k + 8 ≤ 600) {x : Int32} (hx : x = Int32.ofNat k) {Q : z_St → Option z_V → Prop} (q : Q σ (some (.inr (.inl (n8 (vI A 64) c k))))) : wp (zD (d + 3) 108 [.inr (.inr (some (8, 0))), .inl x] σ) Q := by
  subst hx
  refine wp_eq (c108 ..) (wp_eq (e108_0 ..) (wp_cr (mw_n4 (d := d) hM hb hc (by omega) rfl ⟨_, rfl, wp_asI0 ?_⟩)))
  refine wp_cr (mw_n4 (d := d) (k := k + 4) hM hb hc (by omega) (io_add_l k 4) ⟨_, rfl, wp_asI0 ?_⟩)
  rw [show (32 : Int32).toInt64 &&& 63 = 32 from by decide]
  exact wp_ret q
theorem mw_sort {d : Nat} {σ : z_St} {x : Int32} {Q : z_St → Option z_V → Prop} (k : Q σ (some (.inl (fn_kind x)))) : wp (zD (d + 1) 109 [.inl x] σ) Q := by
  refine wp_eq (c109 ..) (wp_eq (e109_0 ..) ?_)
  refine wp_if (fun h => ?_) (fun h257 => ?_)
  · subst h; exact wp_eq (e109_4 ..) (wp_ret k)
  refine wp_if (fun h => ?_) (fun h258 => ?_)
  · subst h; exact wp_eq (e109_2 ..) (wp_ret k)
  refine wp_if (fun h => ?_) (fun h263 => ?_)
  · subst h; exact wp_eq (e109_1 ..) (wp_ret k)
  refine wp_if (fun h => ?_) (fun h264 => ?_)
  · subst h; exact wp_eq (e109_1 ..) (wp_ret k)
  refine wp_if (fun h => ?_) (fun h266 => ?_)
  · subst h; exact wp_eq (e109_2 ..) (wp_ret k)
  refine wp_if (fun h => ?_) (fun h268 => ?_)
  · subst h; exact wp_eq (e109_2 ..) (wp_ret k)
  refine wp_if (fun h => ?_) (fun h269 => ?_)
  · subst h; exact wp_eq (e109_1 ..) (wp_ret k)
  refine wp_if (fun h => ?_) (fun h273 => ?_)
  · subst h; exact wp_eq (e109_2 ..) (wp_ret k)
  refine wp_if (fun h => ?_) (fun h278 => ?_)
  · subst h; exact wp_eq (e109_2 ..) (wp_ret k)
  refine wp_if (fun h => ?_) (fun h279 => ?_)
  · subst h; exact wp_eq (e109_5 ..) (wp_ret k)
  refine wp_if (fun h => ?_) (fun h283 => ?_)
  · subst h; exact wp_eq (e109_1 ..) (wp_ret k)
  refine wp_if (fun h => ?_) (fun h285 => ?_)
  · subst h; exact wp_eq (e109_2 ..) (wp_ret k)
  refine wp_if (fun h => ?_) (fun h293 => ?_)
  · subst h; exact wp_eq (e109_1 ..) (wp_ret k)
  refine wp_if (fun h => ?_) (fun h296 => ?_)
  · subst h; exact wp_eq (e109_1 ..) (wp_ret k)
  refine wp_if (fun h => ?_) (fun h415 => ?_)
  · subst h; exact wp_eq (e109_2 ..) (wp_ret k)
  refine wp_if (fun h => ?_) (fun h416 => ?_)
  · subst h; exact wp_eq (e109_2 ..) (wp_ret k)
  refine wp_if (fun h => ?_) (fun h421 => ?_)
  · subst h; exact wp_eq (e109_3 ..) (wp_ret k)
  refine wp_if (fun h => ?_) (fun h422 => ?_)
  · subst h; exact wp_eq (e109_2 ..) (wp_ret k)
  refine wp_if (fun h => ?_) (fun h431 => ?_)
  · subst h; exact wp_eq (e109_5 ..) (wp_ret k)
  refine wp_if (fun h => ?_) (fun h436 => ?_)
  · subst h; exact wp_eq (e109_2 ..) (wp_ret k)
  refine wp_if (fun h => ?_) (fun h437 => ?_)
  · subst h; exact wp_eq (e109_5 ..) (wp_ret k)
  refine wp_if (fun h => ?_) (fun h443 => ?_)
  · subst h; exact wp_eq (e109_5 ..) (wp_ret k)
  refine wp_if (fun h => ?_) (fun h444 => ?_)
  · subst h; exact wp_eq (e109_1 ..) (wp_ret k)
  refine wp_if (fun h => ?_) (fun h446 => ?_)
  · subst h; exact wp_eq (e109_5 ..) (wp_ret k)
  refine wp_if (fun h => ?_) (fun h448 => ?_)
  · subst h; exact wp_eq (e109_2 ..) (wp_ret k)
  refine wp_if (fun h => ?_) (fun h450 => ?_)
  · subst h; exact wp_eq (e109_2 ..) (wp_ret k)
  have e : fn_kind x = 0 := by unfold fn_kind; simp only [h257, h258, h263, h264, h266, h268, h269, h273, h278, h279, h283, h285, h293, h296, h415, h416, h421, h422, h431, h436, h437, h443, h444, h446, h448, h450, or_self, if_false]
  rw [e] at k
  exact wp_eq (e109_6 ..) (wp_ret k)
theorem mw_size {d n : Nat} {σ : z_St} {kd y : Int32} (hy : y = Int32.ofNat n) (hn : n < 2147483648) {Q : z_St → Option z_V → Prop} (k : Q σ (some (.inl (b2i (fn_fits kd n))))) : wp (zD (d + 1) 110 [.inl kd, .inl y] σ) Q := by
  subst hy
  refine wp_eq (c110 ..) (wp_eq (e110_0 ..) (wp_if (fun h1 => ?_) (fun h1 => ?_)))
  · subst h1
    have e : fn_fits 1 n = (1 ≤ n ∧ n ≤ 40) := by unfold fn_fits; simp
    simp only [e] at k
    refine wp_eq (e110_1 ..) (wp_if (fun hc => ?_) (fun hc => ?_)) <;> rw [io_lt_l hn (by decide)] at hc
    · rw [b2i_f (by omega)] at k
      exact wp_eq (e110_4 ..) (wp_eq (e110_18 ..) (wp_gd (.inl rfl) (wp_ret k)))
    · refine wp_eq (e110_2 ..) (wp_if (fun hd => ?_) (fun hd => ?_)) <;> rw [io_llt hn (by decide)] at hd
      · rw [b2i_f (by omega)] at k
        exact wp_eq (e110_4 ..) (wp_eq (e110_18 ..) (wp_gd (.inl rfl) (wp_ret k)))
      · rw [b2i_t (by omega)] at k
        exact wp_eq (e110_3 ..) (wp_eq (e110_18 ..) (wp_gd (.inr rfl) (wp_ret k)))
  refine wp_eq (e110_5 ..) (wp_if (fun h2 => ?_) (fun h2 => ?_))
  · subst h2
    have e : fn_fits 2 n = (n = 4) := by unfold fn_fits; simp
    simp only [e] at k
    refine wp_eq (e110_6 ..) (wp_if (fun hc => ?_) (fun hc => ?_)) <;> rw [io_eq_l hn (by decide)] at hc
    · rw [b2i_t (by omega)] at k
      exact wp_eq (e110_7 ..) (wp_eq (e110_18 ..) (wp_gd (.inr rfl) (wp_ret k)))
    · rw [b2i_f (by omega)] at k
      exact wp_eq (e110_8 ..) (wp_eq (e110_18 ..) (wp_gd (.inl rfl) (wp_ret k)))
  refine wp_eq (e110_9 ..) (wp_if (fun h3 => ?_) (fun h3 => ?_))
  · subst h3
    have e : fn_fits 3 n = (n = 8) := by unfold fn_fits; simp
    simp only [e] at k
    refine wp_eq (e110_10 ..) (wp_if (fun hc => ?_) (fun hc => ?_)) <;> rw [io_eq_l hn (by decide)] at hc
    · rw [b2i_t (by omega)] at k
      exact wp_eq (e110_11 ..) (wp_eq (e110_18 ..) (wp_gd (.inr rfl) (wp_ret k)))
    · rw [b2i_f (by omega)] at k
      exact wp_eq (e110_12 ..) (wp_eq (e110_18 ..) (wp_gd (.inl rfl) (wp_ret k)))
  refine wp_eq (e110_13 ..) (wp_if (fun h4 => ?_) (fun h4 => ?_))
  · subst h4
    have e : fn_fits 4 n = (n = 6) := by unfold fn_fits; simp
    simp only [e] at k
    refine wp_eq (e110_14 ..) (wp_if (fun hc => ?_) (fun hc => ?_)) <;> rw [io_eq_l hn (by decide)] at hc
    · rw [b2i_t (by omega)] at k
      exact wp_eq (e110_15 ..) (wp_eq (e110_18 ..) (wp_gd (.inr rfl) (wp_ret k)))
    · rw [b2i_f (by omega)] at k
      exact wp_eq (e110_16 ..) (wp_eq (e110_18 ..) (wp_gd (.inl rfl) (wp_ret k)))
  have e : fn_fits kd n := ⟨fun h => absurd h h1, fun h => absurd h h2, fun h => absurd h h3, fun h => absurd h h4⟩
  rw [b2i_t e] at k
  exact wp_eq (e110_17 ..) (wp_eq (e110_18 ..) (wp_gd (.inr rfl) (wp_ret k)))
theorem mw_fault {T σ : z_St} {A : w_A} (hM : w_M T σ A) (hP : vP A = none) {d : Nat} {w x : Int32} {Q : z_St → Option z_V → Prop} (k : w_M T (wI (wI σ 8 74 0 w) 8 75 0 x) A → Q (wI (wI σ 8 74 0 w) 8 75 0 x) none) : wp (zD (d + 1) 111 [.inr (.inr (some (8, 0))), .inl w, .inl x] σ) Q :=
  wp_eq (c111 ..) (wp_eq (e111_0 ..) (wp_sw (wp_sw (wp_ret (k (mw8_75 (mw8_74 hM hP w) hP x))))))
/-- what was seen: the own attributes, who, wanted, used -/
abbrev w_S := List w_Q × Option (Nat × Nat) × Option (Nat × Nat) × Option (Nat × Nat)
def z_or (a b : Option (Nat × Nat)) : Option (Nat × Nat) := match a with | some x => some x | none => b
def z_kf (σ : z_St) (l : List w_Q) (k : Nat) : Prop := gI σ 68157840 0 k = Int32.ofNat (fn_many l (z_keys.getD k 0)) ∧ ∀ q, fn_find l (z_keys.getD k 0) = some q → gI σ 66060688 0 k = Int32.ofNat q.2.1 ∧ gI σ 67109264 0 k = Int32.ofNat q.2.2
def z_v8 (r : Nat → Int32) (c : Nat) (l : List w_Q) : Bool := l.any fun q => decide (q.1 = 258 ∧ (n4 r c q.2.1 = 4 ∨ n4 r c q.2.1 = -1))
def z_tw (r : Nat → Int32) (σ : z_St) (c : Nat) (S : w_S) : Prop := (∀ k, k < 12 → z_kf σ S.1 k) ∧ gI σ 8 80 0 = b2i (z_v8 r c S.1 = true) ∧ m_in (gI σ 8 81 0) S.2.1 ∧ (∀ q, S.2.1 = some q → gI σ 8 82 0 = Int32.ofNat q.2) ∧ m_in (gI σ 8 83 0) S.2.2.1 ∧ m_in (gI σ 8 84 0) S.2.2.2
def z_s0 (S : w_S) : Prop := ∀ q, (S.2.1 = some q ∨ S.2.2.1 = some q ∨ S.2.2.2 = some q) → 0 < q.1 ∧ q.1 < 2000
/-- the message's head, what is wrong and the groups under way stay -/
def z_e9 (σ σ' : z_St) : Prop := (∀ n, 67 ≤ n → n ≤ 75 → gI σ' 8 n 0 = gI σ 8 n 0) ∧ (∀ a, a = 69206192 ∨ a = 70254768 ∨ a = 71303344 → ∀ n, gI σ' a 0 n = gI σ a 0 n)
def z_f3 (σ σ' : z_St) : Prop := ∀ a b n, ¬ (a = 66060688 ∨ a = 67109264 ∨ a = 68157840) → gI σ' a b n = gI σ a b n
def tsee (d : Nat) (G : Int32) (q : w_Q) (S : w_S) : w_S :=
  if d = 0 then (S.1 ++ [q], S.2)
  else if d = 1 then (S.1, if G = 9 ∧ q.1 = 444 then z_or S.2.1 (some q.2) else S.2.1, if G = 10 ∧ q.1 = 421 then z_or S.2.2.1 (some q.2) else S.2.2.1, if G = 11 ∧ q.1 = 421 then z_or S.2.2.2 (some q.2) else S.2.2.2)
  else S
theorem many_app (l : List w_Q) (q : w_Q) (x : Int32) : fn_many (l ++ [q]) x = fn_many l x + if q.1 = x then 1 else 0 := by
  unfold fn_many
  rw [List.filter_append, List.length_append]
  by_cases h : q.1 = x
  · rw [if_pos h, List.filter_cons, if_pos (decide_eq_true h)]; rfl
  · rw [if_neg h, List.filter_cons, if_neg (by rw [decide_eq_false h]; decide)]; rfl
theorem find_app (l : List w_Q) (q : w_Q) (x : Int32) : fn_find (l ++ [q]) x = match fn_find l x with | some y => some y | none => if q.1 = x then some q else none := by
  unfold fn_find
  rw [List.find?_append]
  cases List.find? (fun q => decide (q.1 = x)) l with
  | some y => rfl
  | none =>
    show List.find? (fun q => decide (q.1 = x)) [q] = _
    by_cases h : q.1 = x
    · simp [h]
    · simp [h]
theorem many_0 (l : List w_Q) (x : Int32) : fn_many l x = 0 ↔ fn_find l x = none := by
  unfold fn_many fn_find
  rw [List.length_eq_zero_iff, List.filter_eq_nil_iff, List.find?_eq_none]
theorem many_le (l : List w_Q) (x : Int32) : fn_many l x ≤ l.length := List.length_filter_le _ _
theorem ml_see {T σ0 : z_St} {A : w_A} (hP : vP A = none) {l : List w_Q} (hl : l.length ≤ 200) {fr n : Nat} {code : Int32} {d : Nat} {Q : z_St → Option z_V → Prop} (k : ∀ σ, w_M T σ A → (∀ k, k < 12 → z_kf σ (l ++ [(code, fr, n)]) k) → z_f3 σ0 σ → wp (E xP112 (zD d) 8 [some (.inr (.inr (some (8, 0)))), some (.inl code), some (.inl (Int32.ofNat fr)), none, none, none] [] σ) Q) : ∀ (m i : Nat) (σ : z_St), i + m = 12 → w_M T σ A → (∀ k, k < i → z_kf σ (l ++ [(code, fr, n)]) k) → (∀ k, i ≤ k → k < 12 → z_kf σ l k) → z_f3 σ0 σ →
    wp (E xP112 (zD d) 2 [some (.inr (.inr (some (8, 0)))), some (.inl code), some (.inl (Int32.ofNat fr)), some (.inl (Int32.ofNat n)), none, some (.inl (Int32.ofNat i))] [] σ) Q
  | 0, i, σ, hi, hM, h1, h2, hf => by
    refine wp_eq (e112_2 ..) (wp_if (fun h => ?_) (fun h => ?_)) <;> rw [io_lle (by omega) (by decide)] at h
    · exact k σ hM (fun k hk => h1 k (by omega)) hf
    · omega
  | m + 1, i, σ, hi, hM, h1, h2, hf => by
    refine wp_eq (e112_2 ..) (wp_if (fun h => ?_) (fun h => ?_)) <;> rw [io_lle (by omega) (by decide)] at h
    · omega
    obtain ⟨hm, hq⟩ := h2 i (by omega) (by omega)
    have hml := many_le l (z_keys.getD i 0)
    have hi31 : i < 2147483648 := by omega
    refine wp_eq (e112_3 ..) (wp_ar (rm_p76 hM) aty_65012112 alen_65012112 rfl (by omega) (by decide) ?_)
    dsimp only
    rw [io_nat (by omega), show gI σ 65012112 0 i = z_keys.getD i 0 from (rm_keys hM) i (by omega)]
    have next : ∀ σ, w_M T σ A → (∀ k, k < i + 1 → z_kf σ (l ++ [(code, fr, n)]) k) → (∀ k, i + 1 ≤ k → k < 12 → z_kf σ l k) → z_f3 σ0 σ → wp (E xP112 (zD d) 7 [some (.inr (.inr (some (8, 0)))), some (.inl code), some (.inl (Int32.ofNat fr)), some (.inl (Int32.ofNat n)), none, some (.inl (Int32.ofNat i))] [] σ) Q := by
      intro σ hM h1 h2 hf
      refine wp_eq (e112_7 ..) ?_
      rw [io_add_l]
      exact ml_see hP hl k m (i + 1) σ (by omega) hM h1 h2 hf
    refine wp_if (fun hc => ?_) (fun hc => ?_)
    · have k6 : ∀ σ, w_M T σ A → (∀ k, k < i → z_kf σ (l ++ [(code, fr, n)]) k) → (∀ k, i + 1 ≤ k → k < 12 → z_kf σ l k) → z_f3 σ0 σ → gI σ 68157840 0 i = Int32.ofNat (fn_many l (z_keys.getD i 0)) → (∀ q, fn_find (l ++ [(code, fr, n)]) (z_keys.getD i 0) = some q → gI σ 66060688 0 i = Int32.ofNat q.2.1 ∧ gI σ 67109264 0 i = Int32.ofNat q.2.2) → wp (E xP112 (zD d) 6 [some (.inr (.inr (some (8, 0)))), some (.inl code), some (.inl (Int32.ofNat fr)), some (.inl (Int32.ofNat n)), none, some (.inl (Int32.ofNat i))] [] σ) Q := by
        intro σ hM h1 h2 hf ho hq
        refine wp_eq (e112_6 ..) (wp_ar (rm_p79 hM) aty_68157840 alen_68157840 rfl (by omega) (by decide) ?_)
        refine (wp_ar (rm_p79 hM) aty_68157840 alen_68157840 rfl (by omega) (by decide) ?_)
        dsimp only
        rw [io_nat (by omega), ho, io_add_l]
        refine wp_sw (next _ (mwA_68157840 hM hP i _) ?_ ?_ ?_)
        · intro k hk
          by_cases e : k = i
          · subst e
            refine ⟨?_, hq⟩
            rw [many_app, if_pos hc.symm]
            rw [gI_wI, if_pos ⟨rfl, rfl, rfl⟩]
          · have := h1 k (by omega)
            refine ⟨?_, this.2⟩
            rw [gI_wI, if_neg (fun q => e q.2.2)]
            exact this.1
        · intro k hk hk2
          have := h2 k hk hk2
          refine ⟨?_, this.2⟩
          rw [gI_wI, if_neg (fun q => by omega)]
          exact this.1
        · intro a b n ha
          rw [gI_wI, if_neg (fun q => ha (.inr (.inr q.1)))]
          exact hf a b n ha
      refine wp_eq (e112_4 ..) (wp_ar (rm_p79 hM) aty_68157840 alen_68157840 rfl (by omega) (by decide) ?_)
      dsimp only
      rw [io_nat (by omega), hm]
      refine wp_if (fun h0 => ?_) (fun h0 => ?_) <;> rw [io_eq_l (by omega) (by decide)] at h0
      · have hn := (many_0 l (z_keys.getD i 0)).mp h0
        refine wp_eq (e112_5 ..) (wp_ar (rm_p77 hM) aty_66060688 alen_66060688 rfl (by omega) (by decide) ?_)
        simp only [io_nat hi31]
        have hM1 := mwA_66060688 hM hP i (Int32.ofNat fr)
        refine wp_sw ?_
        generalize hσ1 : wI σ 66060688 0 i (Int32.ofNat fr) = σ1 at hM1 ⊢
        refine (wp_ar (rm_p78 hM1) aty_67109264 alen_67109264 rfl (by omega) (by decide) ?_)
        dsimp only
        have hM2 := mwA_67109264 hM1 hP i (Int32.ofNat n)
        have g1 : ∀ a b n, ¬ (a = 66060688 ∧ n = i) → gI σ1 a b n = gI σ a b n := by
          intro a b n h
          subst hσ1
          rw [gI_wI, if_neg (fun q => h ⟨q.1, q.2.2⟩)]
        have g1i : gI σ1 66060688 0 i = Int32.ofNat fr := by
          subst hσ1
          rw [gI_wI, if_pos ⟨rfl, rfl, rfl⟩]
        have g2 : ∀ a b m, ¬ (a = 67109264 ∧ m = i) → gI (wI σ1 67109264 0 i (Int32.ofNat n)) a b m = gI σ1 a b m := by
          intro a b m h
          rw [gI_wI, if_neg (fun q => h ⟨q.1, q.2.2⟩)]
        have g2i : gI (wI σ1 67109264 0 i (Int32.ofNat n)) 67109264 0 i = Int32.ofNat n := by
          rw [gI_wI, if_pos ⟨rfl, rfl, rfl⟩]
        have gg : ∀ a b m, m ≠ i ∨ (a ≠ 66060688 ∧ a ≠ 67109264) → gI (wI σ1 67109264 0 i (Int32.ofNat n)) a b m = gI σ a b m := by
          intro a b m h
          rw [g2 a b m (fun q => by rcases h with h | h; exact h q.2; exact h.2 q.1), g1 a b m (fun q => by rcases h with h | h; exact h q.2; exact h.1 q.1)]
        refine wp_sw (k6 _ hM2 ?_ ?_ ?_ ?_ ?_)
        · intro k hk
          have := h1 k hk
          unfold z_kf at this ⊢
          rw [gg _ _ _ (.inl (by omega)), gg _ _ _ (.inl (by omega)), gg _ _ _ (.inl (by omega))]
          exact this
        · intro k hk hk2
          have := h2 k (by omega) hk2
          unfold z_kf at this ⊢
          rw [gg _ _ _ (.inl (by omega)), gg _ _ _ (.inl (by omega)), gg _ _ _ (.inl (by omega))]
          exact this
        · intro a b m ha
          rw [gg a b m (.inr ⟨fun q => ha (.inl q), fun q => ha (.inr (.inl q))⟩)]
          exact hf a b m ha
        · rw [gg _ _ _ (.inr ⟨by decide, by decide⟩)]
          exact hm
        · intro q hq
          rw [find_app, hn] at hq
          dsimp only at hq
          rw [if_pos hc.symm] at hq
          cases hq
          rw [g2i, g2 _ _ _ (fun q => absurd q.1 (by decide)), g1i]
          exact ⟨rfl, rfl⟩
      · refine k6 σ hM h1 (fun k hk => h2 k (by omega)) hf hm ?_
        intro q hq2
        cases e : fn_find l (z_keys.getD i 0) with
        | none => exact absurd ((many_0 l _).mpr e) h0
        | some y =>
          rw [find_app, e] at hq2
          cases hq2
          exact hq _ e
    · refine next σ hM ?_ (fun k hk => h2 k (by omega)) hf
      intro k hk
      by_cases e : k = i
      · subst e
        have hc : ¬ code = z_keys.getD k 0 := fun q => hc q.symm
        refine ⟨?_, ?_⟩
        · rw [many_app, if_neg hc]
          exact hm
        · intro q hq2
          rw [find_app] at hq2
          cases e : fn_find l (z_keys.getD k 0) with
          | none =>
            rw [e] at hq2
            dsimp only at hq2
            rw [if_neg hc] at hq2
            cases hq2
          | some y =>
            rw [e] at hq2
            cases hq2
            exact hq _ e
      · exact h1 k (by omega)
theorem v8_app (r : Nat → Int32) (c : Nat) (l : List w_Q) (q : w_Q) : z_v8 r c (l ++ [q]) = (z_v8 r c l || decide (q.1 = 258 ∧ (n4 r c q.2.1 = 4 ∨ n4 r c q.2.1 = -1))) := by
  unfold z_v8
  rw [List.any_append]
  simp
theorem f3_e9 {σ σ' : z_St} (hf : z_f3 σ σ') : z_e9 σ σ' := by
  refine ⟨fun n _ _ => hf _ _ _ (by omega), fun a ha n => hf _ _ _ (by omega)⟩
theorem e9_w {σ σ' : z_St} (hf : z_e9 σ σ') {n : Nat} (hn : 76 ≤ n) (v : Int32) : z_e9 σ (wI σ' 8 n 0 v) := by
  refine ⟨fun m h1 h2 => ?_, fun a ha m => ?_⟩
  · rw [gI_wI, if_neg (fun q => by omega)]
    exact hf.1 m h1 h2
  · rw [gI_wI, if_neg (fun q => by omega)]
    exact hf.2 a ha m
theorem in_0 {q : Option (Nat × Nat)} {x : Int32} (h : m_in x q) (h0 : ∀ y, q = some y → 0 < y.1 ∧ y.1 < 2000) : x = 0 ↔ q = none := by
  unfold m_in at h
  cases q with
  | none => exact ⟨fun _ => rfl, fun _ => h⟩
  | some y =>
    have := h0 y rfl
    have h : x = Int32.ofNat y.1 := h
    rw [h, io_eq_l (by omega) (by decide)]
    exact ⟨fun h => absurd h (show ¬ y.1 = 0 by omega), fun h => absurd h (by simp)⟩
theorem mw_see {T σ : z_St} {A : w_A} (hM : w_M T σ A) (hP : vP A = none) {S : w_S} {c : Nat} (hs : z_tw (vI A 64) σ c S) (h0 : z_s0 S) (hl : S.1.length ≤ 200) {d dep fr n : Nat} {G code x y z : Int32} (hc : c ≤ 8) (hb : gI σ 8 67 0 = Int32.ofNat (600 * c)) (hx : x = Int32.ofNat fr) (hy : y = Int32.ofNat n) (hz : z = Int32.ofNat dep) (hdep : dep ≤ 3) (hG : dep = 1 → gI σ 71303344 0 1 = G) (h258 : dep = 0 → code = 258 → fr + 4 ≤ 600) {Q : z_St → Option z_V → Prop} (k : ∀ σ', w_M T σ' A → z_tw (vI A 64) σ' c (tsee dep G (code, fr, n) S) → z_e9 σ σ' → Q σ' none) : wp (zD (d + 3) 112 [.inr (.inr (some (8, 0))), .inl code, .inl x, .inl y, .inl z] σ) Q := by
  subst hx hy hz
  have hs' := hs
  obtain ⟨h1, h2, h3, h4, h5, h6⟩ := hs
  refine wp_eq (c112 ..) (wp_eq (e112_0 ..) (wp_if (fun h => ?_) (fun h => ?_))) <;> rw [io_eq_l (by omega) (by decide)] at h
  · have h : dep = 0 := h
    subst h
    refine wp_eq (e112_1 ..) (ml_see (σ0 := σ) hP hl ?_ 12 0 σ rfl hM (fun k hk => absurd hk (by omega)) (fun k _ hk => h1 k hk) (fun _ _ _ _ => rfl))
    intro σ1 hM1 hk1 hf
    have e80 : gI σ1 8 80 0 = b2i (z_v8 (vI A 64) c S.1 = true) := (hf _ _ _ (by decide)).trans h2
    have hb1 : gI σ1 8 67 0 = Int32.ofNat (600 * c) := (hf _ _ _ (by decide)).trans hb
    have j3 : m_in (gI σ1 8 81 0) S.2.1 := by rw [hf _ _ _ (by decide)]; exact h3
    have j4 : ∀ q, S.2.1 = some q → gI σ1 8 82 0 = Int32.ofNat q.2 := by rw [hf _ _ _ (by decide)]; exact h4
    have j5 : m_in (gI σ1 8 83 0) S.2.2.1 := by rw [hf _ _ _ (by decide)]; exact h5
    have j6 : m_in (gI σ1 8 84 0) S.2.2.2 := by rw [hf _ _ _ (by decide)]; exact h6
    refine wp_eq (e112_8 ..) (wp_if (fun h8 => ?_) (fun h8 => ?_))
    · have hfr := h258 rfl h8
      subst h8
      have hv8 := v8_app (vI A 64) c S.1 (258, fr, n)
      have fin : ∀ v : Int32, v = b2i (z_v8 (vI A 64) c (S.1 ++ [(258, fr, n)]) = true) → (v = 0 ∨ v = 1) → wp (E xP112 (zD (d + 2)) 14 [none, none, none, none, none, none] [.inl v, .inr (.inr (some (8, 0)))] σ1) Q := by
        intro v hv h01
        exact wp_eq (e112_14 ..) (wp_dr rfl (wp_gd rfl (wp_gd h01 (wp_sw (wp_eq (e112_15 ..) (wp_ret (k _ (mw8_80 hM1 hP v) ⟨hk1, hv, j3, j4, j5, j6⟩ (e9_w (f3_e9 hf) (by decide) v))))))))
      have f12 : z_v8 (vI A 64) c (S.1 ++ [(258, fr, n)]) = true → wp (E xP112 (zD (d + 2)) 12 [none, none, none, none, none, none] [.inr (.inr (some (8, 0)))] σ1) Q := fun h => wp_eq (e112_12 ..) (fin 1 (by rw [b2i_t h]) (.inr rfl))
      have f13 : ¬ z_v8 (vI A 64) c (S.1 ++ [(258, fr, n)]) = true → wp (E xP112 (zD (d + 2)) 13 [none, none, none, none, none, none] [.inr (.inr (some (8, 0)))] σ1) Q := fun h => wp_eq (e112_13 ..) (fin 0 (by rw [b2i_f h]) (.inl rfl))
      rw [hv8] at f12 f13
      refine wp_eq (e112_9 ..) (wp_if (fun h9 => ?_) (fun h9 => ?_)) <;> rw [e80, b2i_0] at h9
      · refine wp_eq (e112_10 ..) (wp_cr (mw_n4 (d := d) (k := fr) hM1 hb1 hc hfr rfl ⟨_, rfl, wp_asI0 (wp_if (fun h => ?_) (fun h => ?_))⟩))
        · exact f12 (by simp [h])
        · refine wp_eq (e112_11 ..) (wp_cr (mw_n4 (d := d) (k := fr) hM1 hb1 hc hfr rfl ⟨_, rfl, wp_asI0 (wp_if (fun g => ?_) (fun g => ?_))⟩))
          · exact f12 (by simp [g])
          · exact f13 (by simp [h, g, h9])
      · exact f12 (by simp [Classical.not_not.mp h9])
    · have hv : z_v8 (vI A 64) c (S.1 ++ [(code, fr, n)]) = z_v8 (vI A 64) c S.1 := by
        rw [v8_app, decide_eq_false (fun q => h8 q.1), Bool.or_false]
      refine wp_eq (e112_15 ..) (wp_ret (k _ hM1 ⟨hk1, ?_, j3, j4, j5, j6⟩ (f3_e9 hf)))
      rw [e80]
      show _ = b2i (z_v8 (vI A 64) c (S.1 ++ [(code, fr, n)]) = true)
      rw [hv]
  have h : ¬ dep = 0 := h
  refine wp_eq (e112_16 ..) (wp_if (fun h => ?_) (fun h => ?_)) <;> rw [io_le_l (by omega) (by decide)] at h
  · have h1' : dep = 1 := by omega
    subst h1'
    have hG := hG rfl
    have e9 : z_e9 σ σ := ⟨fun _ _ _ => rfl, fun _ _ _ => rfl⟩
    obtain ⟨l, s1, s2, s3⟩ := S
    obtain ⟨u1, hu1⟩ : ∃ u, u = (if G = 9 ∧ code = 444 then z_or s1 (some (fr, n)) else s1) := ⟨_, rfl⟩
    obtain ⟨u2, hu2⟩ : ∃ u, u = (if G = 10 ∧ code = 421 then z_or s2 (some (fr, n)) else s2) := ⟨_, rfl⟩
    obtain ⟨u3, hu3⟩ : ∃ u, u = (if G = 11 ∧ code = 421 then z_or s3 (some (fr, n)) else s3) := ⟨_, rfl⟩
    have k : ∀ σ', w_M T σ' A → z_tw (vI A 64) σ' c (l, u1, u2, u3) → z_e9 σ σ' → Q σ' none := by
      subst hu1 hu2 hu3
      exact k
    have k30 : ∀ (σ' : z_St), w_M T σ' A → z_tw (vI A 64) σ' c (l, u1, u2, u3) → z_e9 σ σ' → wp (E xP112 (zD (d + 2)) 30 [none, none, none, none, none, none] [] σ') Q := fun σ' a b e => wp_eq (e112_30 ..) (wp_ret (k _ a b e))
    have k26 : ∀ (σ' : z_St), w_M T σ' A → z_tw (vI A 64) σ' c (l, u1, u2, s3) → z_e9 σ σ' → wp (E xP112 (zD (d + 2)) 26 [some (.inr (.inr (some (8, 0)))), some (.inl code), some (.inl (Int32.ofNat fr)), none, none, some (.inl G)] [] σ') Q := by
      intro σ' a b e
      refine wp_eq (e112_26 ..) (wp_if (fun hg => ?_) (fun hg => ?_))
      · refine wp_eq (e112_27 ..) (wp_if (fun hk => ?_) (fun hk => ?_))
        · rw [if_pos ⟨hg, hk⟩] at hu3
          refine wp_eq (e112_28 ..) (wp_if (fun hz => ?_) (fun hz => ?_)) <;> rw [in_0 b.2.2.2.2.2 (fun y hy => h0 y (.inr (.inr hy)))] at hz
          · have hz : s3 = none := hz
            subst hz
            subst hu3
            refine wp_eq (e112_29 ..) (wp_sw (k30 _ (mw8_84 a hP _) ⟨b.1, b.2.1, b.2.2.1, b.2.2.2.1, b.2.2.2.2.1, rfl⟩ (e9_w e (by decide) _)))
          · have : z_or s3 (some (fr, n)) = s3 := by
              cases s3 with
              | none => exact absurd rfl hz
              | some y => rfl
            rw [this] at hu3
            subst hu3
            exact k30 σ' a b e
        · rw [if_neg (fun q => hk q.2)] at hu3
          subst hu3
          exact k30 σ' a b e
      · rw [if_neg (fun q => hg q.1)] at hu3
        subst hu3
        exact k30 σ' a b e
    have k22 : ∀ (σ' : z_St), w_M T σ' A → z_tw (vI A 64) σ' c (l, u1, s2, s3) → z_e9 σ σ' → wp (E xP112 (zD (d + 2)) 22 [some (.inr (.inr (some (8, 0)))), some (.inl code), some (.inl (Int32.ofNat fr)), none, none, some (.inl G)] [] σ') Q := by
      intro σ' a b e
      refine wp_eq (e112_22 ..) (wp_if (fun hg => ?_) (fun hg => ?_))
      · refine wp_eq (e112_23 ..) (wp_if (fun hk => ?_) (fun hk => ?_))
        · rw [if_pos ⟨hg, hk⟩] at hu2
          refine wp_eq (e112_24 ..) (wp_if (fun hz => ?_) (fun hz => ?_)) <;> rw [in_0 b.2.2.2.2.1 (fun y hy => h0 y (.inr (.inl hy)))] at hz
          · have hz : s2 = none := hz
            subst hz
            subst hu2
            refine wp_eq (e112_25 ..) (wp_sw (k26 _ (mw8_83 a hP _) ⟨b.1, b.2.1, b.2.2.1, b.2.2.2.1, rfl, b.2.2.2.2.2⟩ (e9_w e (by decide) _)))
          · have : z_or s2 (some (fr, n)) = s2 := by
              cases s2 with
              | none => exact absurd rfl hz
              | some y => rfl
            rw [this] at hu2
            subst hu2
            exact k26 σ' a b e
        · rw [if_neg (fun q => hk q.2)] at hu2
          subst hu2
          exact k26 σ' a b e
      · rw [if_neg (fun q => hg q.1)] at hu2
        subst hu2
        exact k26 σ' a b e
    refine wp_eq (e112_18 ..) (wp_ar (k := 1) (rm_p87 hM) aty_71303344 alen_71303344 rfl (by decide) (by decide) ?_)
    dsimp only
    simp only [show (1 : Int32).toNatClampNeg = 1 from by decide, hG]
    refine wp_if (fun hg => ?_) (fun hg => ?_)
    · refine wp_eq (e112_19 ..) (wp_if (fun hk => ?_) (fun hk => ?_))
      · rw [if_pos ⟨hg, hk⟩] at hu1
        refine wp_eq (e112_20 ..) (wp_if (fun hz => ?_) (fun hz => ?_)) <;> rw [in_0 h3 (fun y hy => h0 y (.inl hy))] at hz
        · have hz : s1 = none := hz
          subst hz
          subst hu1
          refine wp_eq (e112_21 ..) (wp_sw (wp_sw (k22 _ (mw8_82 (mw8_81 hM hP _) hP _) ⟨h1, h2, rfl, fun q hq => ?_, h5, h6⟩ (e9_w (e9_w e9 (by decide) _) (by decide) _))))
          cases hq
          rfl
        · have : z_or s1 (some (fr, n)) = s1 := by
            cases s1 with
            | none => exact absurd rfl hz
            | some y => rfl
          rw [this] at hu1
          subst hu1
          exact k22 σ hM hs' e9
      · rw [if_neg (fun q => hk q.2)] at hu1
        subst hu1
        exact k22 σ hM hs' e9
    · rw [if_neg (fun q => hg q.1)] at hu1
      subst hu1
      exact k22 σ hM hs' e9
  · have : tsee dep G (code, fr, n) S = S := by
      unfold tsee
      rw [if_neg (by omega), if_neg (by omega)]
    rw [this] at k
    exact wp_eq (e112_17 ..) (wp_ret (k σ hM hs' ⟨fun _ _ _ => rfl, fun _ _ _ => rfl⟩))
