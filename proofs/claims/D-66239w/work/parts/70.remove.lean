/-! PART 70 (src 70.remove.src): a session goes (component) -/
set_option maxHeartbeats 400000
theorem z_row_row {α : Type} (f : Nat → Nat → Nat → α) (a b : Nat) (r s : Nat → α) : z_row (z_row f a b r) a b s = z_row f a b s := by
  funext x y
  unfold z_row
  by_cases h : x = a ∧ y = b
  · rw [if_pos h, if_pos h]
  · rw [if_neg h, if_neg h, if_neg h]
theorem z_row_id {α : Type} (f : Nat → Nat → Nat → α) (a b : Nat) : z_row f a b (f a b) = f := by
  funext x y
  unfold z_row
  by_cases h : x = a ∧ y = b
  · rw [if_pos h, h.1, h.2]
  · rw [if_neg h]
theorem rR_id (σ : z_St) (a b : Nat) : rR σ a b (gR σ a b) = σ := by
  unfold rR
  show (σ.1, σ.2.1, σ.2.2.1, σ.2.2.2.1, z_row σ.2.2.2.2 a b (σ.2.2.2.2 a b)) = σ
  rw [z_row_id]
theorem rI_id (σ : z_St) (a b : Nat) : rI σ a b (gI σ a b) = σ := by
  unfold rI
  show (σ.1, σ.2.1, z_row σ.2.2.1 a b (σ.2.2.1 a b), σ.2.2.2.1, σ.2.2.2.2) = σ
  rw [z_row_id]
theorem wR_rR (σ : z_St) (a b n : Nat) (f : Nat → Option z_Ad) (x : Option z_Ad) : wR (rR σ a b f) a b n x = rR σ a b (va_up f n x) := by
  have e : gR (rR σ a b f) a b = f := by
    funext m
    rw [hR_rR, if_pos ⟨rfl, rfl⟩]
  unfold wR
  rw [e]
  unfold rR
  show (σ.1, σ.2.1, σ.2.2.1, σ.2.2.2.1, z_row (z_row σ.2.2.2.2 a b f) a b _) = _
  rw [z_row_row]
theorem wI_rI (σ : z_St) (a b n : Nat) (f : Nat → Int32) (x : Int32) : wI (rI σ a b f) a b n x = rI σ a b (va_up f n x) := by
  have e : gI (rI σ a b f) a b = f := by
    funext m
    rw [hI_rI, if_pos ⟨rfl, rfl⟩]
  unfold wI
  rw [e]
  unfold rI
  show (σ.1, σ.2.1, z_row (z_row σ.2.2.1 a b f) a b _, σ.2.2.2.1, σ.2.2.2.2) = _
  rw [z_row_row]
theorem x_T_rR {T σ : z_St} {a b : Nat} {f : Nat → Option z_Ad} (h : x_T T σ) (ha : ¬ (z_isM a ∨ a = 14)) : x_T T (rR σ a b f) := by
  refine ⟨fun c hc => ?_, h.2⟩
  have e : c ≠ a := fun e => ha (e ▸ hc)
  refine ⟨(h.1 c hc).1, (h.1 c hc).2.1, ?_⟩
  rw [← (h.1 c hc).2.2]
  funext p m
  rw [hR_rR, if_neg (fun g => e g.1)]
theorem m_T_rI {T σ : z_St} {a b : Nat} {f : Nat → Int32} (h : m_T T σ) (ha : z_isM a) : m_T T (rI σ a b f) := by
  refine ⟨fun c hc => ?_, h.2⟩
  have e : c ≠ a := fun e => hc (e ▸ ha)
  refine ⟨?_, (h.1 c hc).2⟩
  rw [← (h.1 c hc).1]
  funext p m
  rw [hI_rI, if_neg (fun g => e g.1)]
/-- a row whose places from s to j have moved down -/
def fn_sh {α : Type} (j s : Nat) (r : Nat → α) : Nat → α := fun k => if s ≤ k ∧ k < j then r (k + 1) else r k
theorem sh_out {α : Type} {n s : Nat} (r : Nat → α) : fn_sh (n - 1) s r = fn_out n s r := by
  funext k
  unfold fn_sh fn_out
  by_cases h : s ≤ k ∧ k < n - 1
  · rw [if_pos h, if_pos (by omega)]
  · rw [if_neg h, if_neg (by omega)]
theorem rot_lt {n s k : Nat} {r : Nat → Nat} (hn : n ≤ 16) (hs : s < n) (h : ∀ k, k < 16 → r k < 16) (hk : k < 16) : fn_rot n s r k < 16 := by
  unfold fn_rot
  split
  · exact h _ (by omega)
  · split
    · exact h _ (by omega)
    · exact h _ hk
theorem rot_inj {m n s a b : Nat} {r : Nat → Nat} (hn : n ≤ m) (hs : s < n) (h : ∀ i j, i < m → j < m → r i = r j → i = j) (ha : a < m) (hb : b < m) (e : fn_rot n s r a = fn_rot n s r b) : a = b := by
  unfold fn_rot at e
  by_cases h1 : s ≤ a ∧ a + 1 < n <;> by_cases h2 : s ≤ b ∧ b + 1 < n
  · rw [if_pos h1, if_pos h2] at e; have := h _ _ (by omega) (by omega) e; omega
  · rw [if_pos h1, if_neg h2] at e
    by_cases h3 : b + 1 = n
    · rw [if_pos h3] at e; have := h _ _ (by omega) (by omega) e; omega
    · rw [if_neg h3] at e; have := h _ _ (by omega) (by omega) e; omega
  · rw [if_neg h1, if_pos h2] at e
    by_cases h3 : a + 1 = n
    · rw [if_pos h3] at e; have := h _ _ (by omega) (by omega) e; omega
    · rw [if_neg h3] at e; have := h _ _ (by omega) (by omega) e; omega
  · rw [if_neg h1, if_neg h2] at e
    by_cases h3 : a + 1 = n <;> by_cases h4 : b + 1 = n
    · omega
    · rw [if_pos h3, if_neg h4] at e; have := h _ _ (by omega) (by omega) e; omega
    · rw [if_neg h3, if_pos h4] at e; have := h _ _ (by omega) (by omega) e; omega
    · rw [if_neg h3, if_neg h4] at e; exact h _ _ (by omega) (by omega) e
/-- the component's memory when the row of sessions has turned -/
theorem X_remove {T σ : z_St} {A : w_A} (h : w_X T σ A) {s n : Nat} (hn : vN A 2 0 = n) (hs : s < n) (hl : n ≤ 16) (hg : ∀ r, r < 16 → ¬ vN A 16 0 = r + 1) {f : Nat → Option z_Ad} (hf : ∀ k, k < 16 → f k = some (5, fn_rot n s (vN A 17) k)) : w_X T (rR (wI σ 0 12 0 (Int32.ofNat (n - 1))) 4194839 0 f) (fn_remove A s) := by
  obtain ⟨hT, hA, hB, hC, hD, hE, hF, hG, hH, hI, hJ, hK, hL, hM, hN⟩ := h
  subst hn
  refine ⟨x_T_rR (x_T_wI hT (z_isM_dec _ rfl)) (z_isM_dec _ rfl), hA, hB, ?_, hD, hE, hF, hG, hH, hI, ⟨fun k hk => ⟨?_, ?_, fun r hr e => ?_⟩, hJ.2.1, fun r hr => ?_⟩, hK, hL, hM, ⟨hN.1, fun r hr e => absurd e (hg r hr)⟩⟩
  · exact ⟨hC.1, hC.2.1, rfl, hC.2.2.2⟩
  · show gR (rR _ 4194839 0 f) 4194839 0 k = _
    rw [hR_rR, if_pos ⟨rfl, rfl⟩]
    exact hf k hk
  · exact rot_lt hl hs (fun k hk => (hJ.1 k hk).2.1) hk
  · exact rot_inj hl hs (fun i j hi hj e => (hJ.1 j hj).2.2 i hi e) hr hk e
  · have hr' : r < vN A 2 0 - 1 := hr
    by_cases h1 : s ≤ r
    · have q := hJ.2.2 (r + 1) (by omega)
      have eo : ∀ {α : Type} (g : Nat → α), fn_out (vN A 2 0) s g r = g (r + 1) := fun g => if_pos (by omega)
      have er : fn_rot (vN A 2 0) s (vN A 17) r = vN A 17 (r + 1) := if_pos (by omega)
      show gJ σ 5 4 (fn_rot (vN A 2 0) s (vN A 17) r) = fn_out (vN A 2 0) s (vJ A 5) r ∧ gJ σ 5 5 (fn_rot (vN A 2 0) s (vN A 17) r) = fn_out (vN A 2 0) s (vJ A 6) r ∧ gI σ 5 6 (fn_rot (vN A 2 0) s (vN A 17) r) = fn_out (vN A 2 0) s (vI A 20) r ∧ gI σ 5 7 (fn_rot (vN A 2 0) s (vN A 17) r) = fn_out (vN A 2 0) s (vI A 21) r ∧ gR σ 5 3 (fn_rot (vN A 2 0) s (vN A 17) r) = (if fn_out (vN A 2 0) s (vN A 13) r = 0 then none else some (10, fn_out (vN A 2 0) s (vN A 13) r - 1)) ∧ x_txt σ (4 + 3 * fn_rot (vN A 2 0) s (vN A 17) r) (fn_out (vN A 2 0) s (vL A 4) r) ∧ x_txt σ (5 + 3 * fn_rot (vN A 2 0) s (vN A 17) r) (fn_out (vN A 2 0) s (vL A 5) r) ∧ x_txt σ (6 + 3 * fn_rot (vN A 2 0) s (vN A 17) r) (fn_out (vN A 2 0) s (vL A 6) r)
      rw [er, eo, eo, eo, eo, eo, eo, eo, eo]
      exact q
    · have q := hJ.2.2 r (by omega)
      have eo : ∀ {α : Type} (g : Nat → α), fn_out (vN A 2 0) s g r = g r := fun g => if_neg (by omega)
      have er : fn_rot (vN A 2 0) s (vN A 17) r = vN A 17 r := by
        unfold fn_rot
        rw [if_neg (by omega), if_neg (by omega)]
      show gJ σ 5 4 (fn_rot (vN A 2 0) s (vN A 17) r) = fn_out (vN A 2 0) s (vJ A 5) r ∧ gJ σ 5 5 (fn_rot (vN A 2 0) s (vN A 17) r) = fn_out (vN A 2 0) s (vJ A 6) r ∧ gI σ 5 6 (fn_rot (vN A 2 0) s (vN A 17) r) = fn_out (vN A 2 0) s (vI A 20) r ∧ gI σ 5 7 (fn_rot (vN A 2 0) s (vN A 17) r) = fn_out (vN A 2 0) s (vI A 21) r ∧ gR σ 5 3 (fn_rot (vN A 2 0) s (vN A 17) r) = (if fn_out (vN A 2 0) s (vN A 13) r = 0 then none else some (10, fn_out (vN A 2 0) s (vN A 13) r - 1)) ∧ x_txt σ (4 + 3 * fn_rot (vN A 2 0) s (vN A 17) r) (fn_out (vN A 2 0) s (vL A 4) r) ∧ x_txt σ (5 + 3 * fn_rot (vN A 2 0) s (vN A 17) r) (fn_out (vN A 2 0) s (vL A 5) r) ∧ x_txt σ (6 + 3 * fn_rot (vN A 2 0) s (vN A 17) r) (fn_out (vN A 2 0) s (vL A 6) r)
      rw [er, eo, eo, eo, eo, eo, eo, eo, eo]
      exact q
theorem rx_p0_11' {T σ : z_St} {A : w_A} (h : w_X T σ A) (x : Int32) (f : Nat → Option z_Ad) : gR (rR (wI σ 0 12 0 x) 4194839 0 f) 0 11 0 = some (4194839, 0) := by
  have := rx_p0_11 h
  exact this
theorem xl_rem2 {T σ : z_St} {A : w_A} (hX : w_X T σ A) {d s n : Nat} (hn : vN A 2 0 = n) (hs : s < n) (hl : n ≤ 16) (hg : ∀ r, r < 16 → ¬ vN A 16 0 = r + 1) {Q : z_St → Option z_V → Prop} (k : ∀ σ, w_X T σ (fn_remove A s) → Q σ none) : ∀ (m j : Nat) (f : Nat → Option z_Ad), s ≤ j → j + m = n - 1 → (∀ i, i < 16 → f i = some (5, fn_sh j s (vN A 17) i)) →
    wp (E xP65 (zD d) 4 [some (.inr (.inr (some (0, 0)))), some (.inr (.inr (some (5, vN A 17 s)))), some (.inl (Int32.ofNat j))] [] (rR (wI σ 0 12 0 (Int32.ofNat (n - 1))) 4194839 0 f)) Q
  | 0, j, f, hsj, hj, hf => by
    have e12 : gI (rR (wI σ 0 12 0 (Int32.ofNat (n - 1))) 4194839 0 f) 0 12 0 = Int32.ofNat (n - 1) := rfl
    refine wp_eq (e65_4 ..) (wp_if (fun hc => ?_) (fun hc => ?_)) <;> rw [e12, io_le (by omega) (by omega)] at hc
    · refine wp_eq (e65_6 ..) (wp_dr rfl (wp_dr (rx_p0_11' hX _ _) (wp_gd (by rw [aty_4194839]; exact ⟨by decide, by decide, by show (5 : Nat) = aEl 4194839; decide⟩) (wp_gd ?_ ?_))))
      · rw [alen_4194839, e12]; exact zin_io (by omega) (by omega)
      · rw [e12, io_nat (by omega), wR_rR]
        refine wp_sw (wp_ret (k _ (X_remove hX hn hs hl hg fun i hi => ?_)))
        show va_up f (n - 1) _ i = _
        unfold va_up
        by_cases e : i = n - 1
        · rw [if_pos e]
          unfold fn_rot
          rw [if_neg (by omega), if_pos (by omega)]
        · rw [if_neg e, hf i hi]
          unfold fn_rot fn_sh
          by_cases h : s ≤ i ∧ i < j
          · rw [if_pos h, if_pos (by omega)]
          · rw [if_neg h, if_neg (by omega), if_neg (by omega)]
    · omega
  | m + 1, j, f, hsj, hj, hf => by
    have e12 : gI (rR (wI σ 0 12 0 (Int32.ofNat (n - 1))) 4194839 0 f) 0 12 0 = Int32.ofNat (n - 1) := rfl
    have ef : ∀ i, gR (rR (wI σ 0 12 0 (Int32.ofNat (n - 1))) 4194839 0 f) 4194839 0 i = f i := fun i => by rw [hR_rR, if_pos ⟨rfl, rfl⟩]
    refine wp_eq (e65_4 ..) (wp_if (fun hc => ?_) (fun hc => ?_)) <;> rw [e12, io_le (by omega) (by omega)] at hc
    · omega
    · refine wp_eq (e65_5 ..) (wp_dr (rx_p0_11' hX _ _) (wp_gd (by rw [aty_4194839]; decide) (wp_gd ?_ ?_)))
      · rw [alen_4194839, io_add_l]; exact zin_io (by omega) (by omega)
      · rw [io_add_l, io_nat (by omega)]
        refine wp_dr (by rw [ef, hf (j + 1) (by omega)]) (wp_dr (rx_p0_11' hX _ _) (wp_gd (by rw [aty_4194839]; exact ⟨by decide, by decide, by show (5 : Nat) = aEl 4194839; decide⟩) (wp_gd ?_ ?_)))
        · rw [alen_4194839]; exact zin_io (by omega) (by omega)
        · rw [io_nat (by omega), wR_rR]
          refine wp_sw (xl_rem2 hX hn hs hl hg k m (j + 1) _ (by omega) (by omega) fun i hi => ?_)
          unfold va_up
          by_cases e : i = j
          · subst e
            rw [if_pos rfl]
            unfold fn_sh
            rw [if_neg (by omega), if_pos (by omega)]
          · rw [if_neg e, hf i hi]
            unfold fn_sh
            by_cases h : s ≤ i ∧ i < j
            · rw [if_pos h, if_pos (by omega)]
            · rw [if_neg h, if_neg (by omega)]
theorem xl_rem1 {T σ : z_St} {A : w_A} (hX : w_X T σ A) {d s n : Nat} (hn : vN A 2 0 = n) (hs : s < n) (hl : n ≤ 16) (hg : ∀ r, r < 16 → ¬ vN A 16 0 = r + 1) {Q : z_St → Option z_V → Prop} (k : ∀ σ, w_X T σ (fn_remove A s) → Q σ none) : ∀ (m j : Nat), j + m = s →
    wp (E xP65 (zD d) 1 [some (.inr (.inr (some (0, 0)))), some (.inr (.inr (some (5, vN A 17 s)))), some (.inl (Int32.ofNat j))] [] σ) Q
  | 0, j, hj => by
    have : j = s := by omega
    subst this
    refine wp_eq (e65_1 ..) (wp_dr (rx_p0_11 hX) (wp_gd (by rw [aty_4194839]; decide) (wp_gd ?_ (wp_gd ?_ ?_))))
    · rw [alen_4194839]; exact zin_io (by omega) (by omega)
    · rw [io_nat (by omega), rx_sobj hX (by omega)]; exact ⟨rfl, rfl⟩
    · rw [io_nat (by omega), rx_sobj hX (by omega), if_pos rfl]
      refine wp_eq (e65_3 ..) (wp_sw ?_)
      rw [rx_SESS hX, hn, show (Int32.ofNat n - 1 : Int32) = Int32.ofNat (n - 1) from by rw [show (1 : Int32) = Int32.ofNat 1 from rfl, io_sub (by omega)]]
      rw [← rR_id (wI σ 0 12 0 (Int32.ofNat (n - 1))) 4194839 0]
      refine xl_rem2 hX hn hs hl hg k (n - 1 - j) j _ (by omega) (by omega) fun i hi => ?_
      show gR σ 4194839 0 i = _
      rw [rx_sobj hX hi]
      unfold fn_sh
      rw [if_neg (by omega)]
  | m + 1, j, hj => by
    refine wp_eq (e65_1 ..) (wp_dr (rx_p0_11 hX) (wp_gd (by rw [aty_4194839]; decide) (wp_gd ?_ (wp_gd ?_ ?_))))
    · rw [alen_4194839]; exact zin_io (by omega) (by omega)
    · rw [io_nat (by omega), rx_sobj hX (by omega)]; exact ⟨rfl, rfl⟩
    · rw [io_nat (by omega), rx_sobj hX (by omega), if_neg (fun e => ?_)]
      · refine wp_eq (e65_2 ..) ?_
        rw [io_add_l]
        exact xl_rem1 hX hn hs hl hg k m (j + 1) (by omega)
      · have e2 : vN A 17 j = vN A 17 s := congrArg Prod.snd (Option.some.inj e)
        have := ((rx_J hX).1 s (by omega)).2.2 j (by omega) e2
        omega
theorem xc_remove {T σ : z_St} {A : w_A} (hX : w_X T σ A) {d s : Nat} (hs : s < vN A 2 0) (hl : vN A 2 0 ≤ 16) (hg : ∀ r, r < 16 → ¬ vN A 16 0 = r + 1) {Q : z_St → Option z_V → Prop} (k : ∀ σ, w_X T σ (fn_remove A s) → Q σ none) : wp (zD (d + 1) 65 [.inr (.inr (some (0, 0))), .inr (.inr (some (5, vN A 17 s)))] σ) Q :=
  wp_eq (c65 ..) (wp_eq (e65_0 ..) (xl_rem1 hX rfl hs hl hg k s 0 (by omega)))
