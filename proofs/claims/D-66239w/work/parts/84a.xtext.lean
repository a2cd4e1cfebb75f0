/-! PART 84a (src 84a.xtext.src, printed by wip/gen/g84.py): the component's texts are written -/
set_option maxHeartbeats 400000
/-- text t becomes m -/
def x_tw (σ : z_St) (t n : Nat) (f : Nat → Int32) : z_St := rI (wI σ 1 1 t (Int32.ofNat n)) 80741649 t f
theorem tw_eq {σ : z_St} {t : Nat} {m : List Int32} {f : Nat → Int32} (hf : ∀ k, (h : k < m.length) → f k = m[k]) : x_txt (x_tw σ t m.length f) t m := by
  refine ⟨?_, fun k h => ?_⟩
  · show gI (wI σ 1 1 t (Int32.ofNat m.length)) 1 1 t = Int32.ofNat m.length
    rw [gI_wI, if_pos ⟨rfl, rfl, rfl⟩]
  · show gI (rI (wI σ 1 1 t (Int32.ofNat m.length)) 80741649 t f) 80741649 t k = m[k]
    rw [hI_rI, if_pos ⟨rfl, rfl⟩]
    exact hf k h
theorem tw_ne {σ : z_St} {t s n : Nat} {l : List Int32} {f : Nat → Int32} (hs : ¬ s = t) (h : x_txt σ s l) : x_txt (x_tw σ t n f) s l := by
  refine ⟨?_, fun k hk => ?_⟩
  · show gI (wI σ 1 1 t (Int32.ofNat n)) 1 1 s = Int32.ofNat l.length
    rw [gI_wI, if_neg (fun g => hs g.2.2)]
    exact h.1
  · show gI (rI (wI σ 1 1 t (Int32.ofNat n)) 80741649 t f) 80741649 s k = l[k]
    rw [hI_rI, if_neg (fun g => hs g.2)]
    exact h.2 k hk
theorem tw_A {σ : z_St} {t n : Nat} {f : Nat → Int32} (h2 : ¬ 2 = t) (h3 : ¬ 3 = t) (h : x_A σ) : x_A (x_tw σ t n f) := by
  unfold x_A at h
  exact ⟨h.1, h.2.1, h.2.2.1, h.2.2.2.1, h.2.2.2.2.1, h.2.2.2.2.2.1, h.2.2.2.2.2.2.1, h.2.2.2.2.2.2.2.1, h.2.2.2.2.2.2.2.2.1, h.2.2.2.2.2.2.2.2.2.1, h.2.2.2.2.2.2.2.2.2.2.1, h.2.2.2.2.2.2.2.2.2.2.2.1, h.2.2.2.2.2.2.2.2.2.2.2.2.1, h.2.2.2.2.2.2.2.2.2.2.2.2.2.1, h.2.2.2.2.2.2.2.2.2.2.2.2.2.2.1, h.2.2.2.2.2.2.2.2.2.2.2.2.2.2.2.1, h.2.2.2.2.2.2.2.2.2.2.2.2.2.2.2.2.1, h.2.2.2.2.2.2.2.2.2.2.2.2.2.2.2.2.2.1, h.2.2.2.2.2.2.2.2.2.2.2.2.2.2.2.2.2.2.1, h.2.2.2.2.2.2.2.2.2.2.2.2.2.2.2.2.2.2.2.1, h.2.2.2.2.2.2.2.2.2.2.2.2.2.2.2.2.2.2.2.2.1, h.2.2.2.2.2.2.2.2.2.2.2.2.2.2.2.2.2.2.2.2.2.1, h.2.2.2.2.2.2.2.2.2.2.2.2.2.2.2.2.2.2.2.2.2.2.1, h.2.2.2.2.2.2.2.2.2.2.2.2.2.2.2.2.2.2.2.2.2.2.2.1, h.2.2.2.2.2.2.2.2.2.2.2.2.2.2.2.2.2.2.2.2.2.2.2.2.1, h.2.2.2.2.2.2.2.2.2.2.2.2.2.2.2.2.2.2.2.2.2.2.2.2.2.1, h.2.2.2.2.2.2.2.2.2.2.2.2.2.2.2.2.2.2.2.2.2.2.2.2.2.2.1, h.2.2.2.2.2.2.2.2.2.2.2.2.2.2.2.2.2.2.2.2.2.2.2.2.2.2.2.1, h.2.2.2.2.2.2.2.2.2.2.2.2.2.2.2.2.2.2.2.2.2.2.2.2.2.2.2.2.1, h.2.2.2.2.2.2.2.2.2.2.2.2.2.2.2.2.2.2.2.2.2.2.2.2.2.2.2.2.2.1, h.2.2.2.2.2.2.2.2.2.2.2.2.2.2.2.2.2.2.2.2.2.2.2.2.2.2.2.2.2.2.1, h.2.2.2.2.2.2.2.2.2.2.2.2.2.2.2.2.2.2.2.2.2.2.2.2.2.2.2.2.2.2.2.1, tw_ne h2 h.2.2.2.2.2.2.2.2.2.2.2.2.2.2.2.2.2.2.2.2.2.2.2.2.2.2.2.2.2.2.2.2.1, tw_ne h3 h.2.2.2.2.2.2.2.2.2.2.2.2.2.2.2.2.2.2.2.2.2.2.2.2.2.2.2.2.2.2.2.2.2⟩
theorem tw_G {σ : z_St} {A : w_A} {t n : Nat} {f : Nat → Int32} (h0 : 4 ≤ t) (h1 : t < 52 ∨ 244 ≤ t ∧ t < 276) (h : x_G σ A) : x_G (x_tw σ t n f) A := by
  obtain ⟨g1, g2, g3, g4⟩ := h
  exact ⟨tw_ne (by omega) g1, tw_ne (by omega) g2, fun i hi => tw_ne (by omega) (g3 i hi), fun i hi => ⟨tw_ne (by omega) (g4 i hi).1, tw_ne (by omega) (g4 i hi).2.1, tw_ne (by omega) (g4 i hi).2.2⟩⟩
theorem wx_SNAME {T σ : z_St} {A : w_A} (h : w_X T σ A) {s : Nat} (hs : s < vN A 2 0) (hl : vN A 2 0 ≤ 16) {m : List Int32} (hm : m.length ≤ 40) {f : Nat → Int32} (hf : ∀ k, (h : k < m.length) → f k = m[k]) : w_X T (x_tw σ (4 + 3 * vN A 17 s) m.length f) (sL A 4 s m) := by
  obtain ⟨hT, hA, hB, hC, hD, hE, hF, hG, hH, hI, hJ, hK, hL, hM, hN⟩ := h
  have ho := (hJ.1 s (by omega)).2.1
  refine ⟨x_T_rI (x_T_wI hT (z_isM_dec _ rfl)) (z_isM_dec _ rfl), tw_A (by omega) (by omega) hA, hB, hC, hD, hE, hF, tw_G (by omega) (by omega) hG, hH, hI, ⟨hJ.1, ⟨fun t ht => ?_, hJ.2.1.2⟩, fun r hr => ?_⟩, ⟨hK.1, fun r hr => ?_⟩, hL, hM, hN⟩
  · obtain ⟨n, hn, g⟩ := hJ.2.1.1 t ht
    by_cases e : 4 + t = 4 + 3 * vN A 17 s
    · refine ⟨m.length, hm, ?_⟩
      show gI (wI σ 1 1 _ _) 1 1 (4 + t) = _
      rw [gI_wI, if_pos ⟨rfl, rfl, e⟩]
    · refine ⟨n, hn, ?_⟩
      show gI (wI σ 1 1 _ _) 1 1 (4 + t) = _
      rw [gI_wI, if_neg (fun g => e g.2.2)]
      exact g
  · have hr' : r < vN A 2 0 := hr
    obtain ⟨h1, h2, h3, h4, h5, h6, h7, h8⟩ := hJ.2.2 r hr'
    have ho2 := (hJ.1 r (by omega)).2.1
    refine ⟨h1, h2, h3, h4, h5, ?_, tw_ne (by omega) h7, tw_ne (by omega) h8⟩
    show x_txt (x_tw σ (4 + 3 * vN A 17 s) m.length f) (4 + 3 * vN A 17 r) (vL (sL A 4 s m) 4 r)
    rw [vL_sL]
    by_cases e : r = s
    · subst e
      rw [if_pos ⟨rfl, rfl⟩]
      exact tw_eq hf
    · rw [if_neg (fun g => e g.2)]
      have ne : ¬ vN A 17 r = vN A 17 s := fun g => e ((hJ.1 s (by omega)).2.2 r (by omega) g)
      exact tw_ne (by omega) h6
  · have hk := hK.2 r hr
    have ho3 : vN A 17 s < 16 := ho
    exact ⟨hk.1, hk.2.1, tw_ne (by omega) hk.2.2.1, hk.2.2.2⟩
theorem wx_SHOST {T σ : z_St} {A : w_A} (h : w_X T σ A) {s : Nat} (hs : s < vN A 2 0) (hl : vN A 2 0 ≤ 16) {m : List Int32} (hm : m.length ≤ 40) {f : Nat → Int32} (hf : ∀ k, (h : k < m.length) → f k = m[k]) : w_X T (x_tw σ (5 + 3 * vN A 17 s) m.length f) (sL A 5 s m) := by
  obtain ⟨hT, hA, hB, hC, hD, hE, hF, hG, hH, hI, hJ, hK, hL, hM, hN⟩ := h
  have ho := (hJ.1 s (by omega)).2.1
  refine ⟨x_T_rI (x_T_wI hT (z_isM_dec _ rfl)) (z_isM_dec _ rfl), tw_A (by omega) (by omega) hA, hB, hC, hD, hE, hF, tw_G (by omega) (by omega) hG, hH, hI, ⟨hJ.1, ⟨fun t ht => ?_, hJ.2.1.2⟩, fun r hr => ?_⟩, ⟨hK.1, fun r hr => ?_⟩, hL, hM, hN⟩
  · obtain ⟨n, hn, g⟩ := hJ.2.1.1 t ht
    by_cases e : 4 + t = 5 + 3 * vN A 17 s
    · refine ⟨m.length, hm, ?_⟩
      show gI (wI σ 1 1 _ _) 1 1 (4 + t) = _
      rw [gI_wI, if_pos ⟨rfl, rfl, e⟩]
    · refine ⟨n, hn, ?_⟩
      show gI (wI σ 1 1 _ _) 1 1 (4 + t) = _
      rw [gI_wI, if_neg (fun g => e g.2.2)]
      exact g
  · have hr' : r < vN A 2 0 := hr
    obtain ⟨h1, h2, h3, h4, h5, h6, h7, h8⟩ := hJ.2.2 r hr'
    have ho2 := (hJ.1 r (by omega)).2.1
    refine ⟨h1, h2, h3, h4, h5, tw_ne (by omega) h6, ?_, tw_ne (by omega) h8⟩
    show x_txt (x_tw σ (5 + 3 * vN A 17 s) m.length f) (5 + 3 * vN A 17 r) (vL (sL A 5 s m) 5 r)
    rw [vL_sL]
    by_cases e : r = s
    · subst e
      rw [if_pos ⟨rfl, rfl⟩]
      exact tw_eq hf
    · rw [if_neg (fun g => e g.2)]
      have ne : ¬ vN A 17 r = vN A 17 s := fun g => e ((hJ.1 s (by omega)).2.2 r (by omega) g)
      exact tw_ne (by omega) h7
  · have hk := hK.2 r hr
    have ho3 : vN A 17 s < 16 := ho
    exact ⟨hk.1, hk.2.1, tw_ne (by omega) hk.2.2.1, hk.2.2.2⟩
theorem wx_SREALM {T σ : z_St} {A : w_A} (h : w_X T σ A) {s : Nat} (hs : s < vN A 2 0) (hl : vN A 2 0 ≤ 16) {m : List Int32} (hm : m.length ≤ 40) {f : Nat → Int32} (hf : ∀ k, (h : k < m.length) → f k = m[k]) : w_X T (x_tw σ (6 + 3 * vN A 17 s) m.length f) (sL A 6 s m) := by
  obtain ⟨hT, hA, hB, hC, hD, hE, hF, hG, hH, hI, hJ, hK, hL, hM, hN⟩ := h
  have ho := (hJ.1 s (by omega)).2.1
  refine ⟨x_T_rI (x_T_wI hT (z_isM_dec _ rfl)) (z_isM_dec _ rfl), tw_A (by omega) (by omega) hA, hB, hC, hD, hE, hF, tw_G (by omega) (by omega) hG, hH, hI, ⟨hJ.1, ⟨fun t ht => ?_, hJ.2.1.2⟩, fun r hr => ?_⟩, ⟨hK.1, fun r hr => ?_⟩, hL, hM, hN⟩
  · obtain ⟨n, hn, g⟩ := hJ.2.1.1 t ht
    by_cases e : 4 + t = 6 + 3 * vN A 17 s
    · refine ⟨m.length, hm, ?_⟩
      show gI (wI σ 1 1 _ _) 1 1 (4 + t) = _
      rw [gI_wI, if_pos ⟨rfl, rfl, e⟩]
    · refine ⟨n, hn, ?_⟩
      show gI (wI σ 1 1 _ _) 1 1 (4 + t) = _
      rw [gI_wI, if_neg (fun g => e g.2.2)]
      exact g
  · have hr' : r < vN A 2 0 := hr
    obtain ⟨h1, h2, h3, h4, h5, h6, h7, h8⟩ := hJ.2.2 r hr'
    have ho2 := (hJ.1 r (by omega)).2.1
    refine ⟨h1, h2, h3, h4, h5, tw_ne (by omega) h6, tw_ne (by omega) h7, ?_⟩
    show x_txt (x_tw σ (6 + 3 * vN A 17 s) m.length f) (6 + 3 * vN A 17 r) (vL (sL A 6 s m) 6 r)
    rw [vL_sL]
    by_cases e : r = s
    · subst e
      rw [if_pos ⟨rfl, rfl⟩]
      exact tw_eq hf
    · rw [if_neg (fun g => e g.2)]
      have ne : ¬ vN A 17 r = vN A 17 s := fun g => e ((hJ.1 s (by omega)).2.2 r (by omega) g)
      exact tw_ne (by omega) h8
  · have hk := hK.2 r hr
    have ho3 : vN A 17 s < 16 := ho
    exact ⟨hk.1, hk.2.1, tw_ne (by omega) hk.2.2.1, hk.2.2.2⟩
/-- a text out of a message -/
theorem xc_take_ {T σ : z_St} {A : w_A} (hX : w_X T σ A) {P : w_P} (hm : x_msg σ P) (hr : z_rP (vI A 64) P) {code : Int32} (hk : fn_kind code = 1) (hh : (fn_find (pN P) code).isSome = true) {t : Nat} {d : Nat} {Q : z_St → Option z_V → Prop} (k : ∀ f n, n = (fn_taken (vI A 64) P code).length → (∀ k, (h : k < (fn_taken (vI A 64) P code).length) → f k = (fn_taken (vI A 64) P code)[k]) → Q (x_tw σ t n f) none) : wp (zD (d + 2) 209 [.inr (.inr (some (3, 0))), .inl code, .inr (.inr (some (1, t)))] σ) Q := by
  obtain ⟨hc1, hc8⟩ := rP_C hr
  have hl := rP_len hr
  refine wp_eq (c209 ..) (wp_eq (e209_0 ..) (wp_cr (xc_find (d := d) hX hm (by omega) (fun hf => ?_) (fun j hj hf => ⟨_, rfl, ?_⟩))))
  · rw [hf] at hh; exact absurd hh (by decide)
  have h10 := hm.2.2.2.2.2.2.2.2.2 j hj
  have hq := rP_txt hr hk _ hf
  have ht : fn_taken (vI A 64) P code = fn_text (vI A 64) (pC P) (pN P)[j].2.1 (pN P)[j].2.2 := by
    unfold fn_taken
    rw [hf]
  refine wp_dr (rx_p3_9 hX) (wp_gd aty_77597200 (wp_gd ?_ (wp_dr (rx_p3_10 hX) (wp_gd aty_78645776 (wp_gd ?_ (wp_dr rfl ?_))))))
  · rw [alen_77597200]; exact zin_io (by omega) (by decide)
  · rw [alen_78645776]; exact zin_io (by omega) (by decide)
  dsimp only
  rw [io_nat (by omega), h10.2.1, h10.2.2, hm.1]
  refine wp_cv (wp_eq (c242 ..) (wp_eq (e242_0 ..) (wp_sw (wp_dr (rx_p1_0 hX t) (wp_dr rfl (wp_gd ⟨aty_73419537, aty_80741649⟩ (wp_gd ?_ (wp_sw (wp_ret ⟨rfl, wp_ret ?_⟩)))))))))
  · have a1 := alen_73419537
    have a2 := alen_80741649
    refine ⟨io_neg (by omega), by decide, io_neg (by omega), ?_, ?_⟩
    · rw [io_nat (by omega), io_nat (by omega)]; show _ + _ ≤ aLen 73419537; rw [a1]; omega
    · rw [show (0 : Int32).toNatClampNeg = 0 from rfl, io_nat (by omega)]; show 0 + _ ≤ aLen 80741649; rw [a2]; omega
  · dsimp only
    rw [show (0 : Int32).toNatClampNeg = 0 from rfl, io_nat (show (pN P)[j].2.1 < 2147483648 by omega), io_nat (show (pN P)[j].2.2 < 2147483648 by omega)]
    refine k _ _ (by rw [ht, text_len]) fun i hi => ?_
    have hi2 : i < (pN P)[j].2.2 := by rw [ht, text_len] at hi; exact hi
    simp only [ht]
    rw [text_get]
    show va_cpy (gI σ 73419537 (pC P)) _ _ 0 _ i = _
    unfold va_cpy
    rw [if_pos (by omega)]
    exact rx_I hX _ hc1 hc8 _ (by omega)
