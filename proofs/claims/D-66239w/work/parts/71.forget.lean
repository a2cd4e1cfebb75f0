/-! PART 71 (src 71.forget.src, printed by wip/gen/g71.py): rows of names copied; a session goes (twin) -/
set_option maxHeartbeats 400000
/-- what 41 octets copied leave in a row -/
def fn_cp (g : Nat → Int32) (x y : Nat) (h : Nat → Int32) (n : Nat) : Nat → Int32 := fun i => if y ≤ i ∧ i < y + n then nb (g (x + (i - y))) else h i
theorem cp_0 (g : Nat → Int32) (x y : Nat) (h : Nat → Int32) : fn_cp g x y h 0 = h := by
  funext i
  unfold fn_cp
  rw [if_neg (by omega)]
theorem cp_s (g : Nat → Int32) (x y : Nat) (h : Nat → Int32) (n : Nat) : va_up (fn_cp g x y h n) (y + n) (nb (g (x + n))) = fn_cp g x y h (n + 1) := by
  funext i
  unfold fn_cp va_up
  by_cases e : i = y + n
  · rw [if_pos e, if_pos (by omega), show i - y = n by omega]
  · rw [if_neg e]
    show (if y ≤ i ∧ i < y + n then nb (g (x + (i - y))) else h i) = _
    by_cases h1 : y ≤ i ∧ i < y + n
    · rw [if_pos h1, if_pos (by omega)]
    · rw [if_neg h1, if_neg (by omega)]
theorem ml_copyRow {σ : z_St} {d s1 s2 x y : Nat} (t1 : aTy s1 = 17) (t2 : aTy s2 = 17) (l1 : x + 41 ≤ aLen s1) (l2 : y + 41 ≤ aLen s2) (b1 : aLen s1 ≤ 2147483648) (b2 : aLen s2 ≤ 2147483648) (hd : s1 = s2 → y + 41 ≤ x) {Q : z_St → Option z_V → Prop} (k : Q (rI σ s2 0 (fn_cp (gI σ s1 0) x y (gI σ s2 0) 41)) none) : ∀ (m n : Nat), n + m = 41 →
    wp (E xP139 (zD d) 1 [none, some (.inr (.inr (some (s1, 0)))), some (.inl (Int32.ofNat x)), some (.inr (.inr (some (s2, 0)))), some (.inl (Int32.ofNat y)), some (.inl (Int32.ofNat n))] [] (rI σ s2 0 (fn_cp (gI σ s1 0) x y (gI σ s2 0) n))) Q
  | 0, n, hn => by
    refine wp_eq (e139_1 ..) (wp_if (fun hc => ?_) (fun hc => ?_)) <;> rw [show (41 : Int32) = Int32.ofNat 41 from rfl, io_le (by omega) (by omega)] at hc
    · have : n = 41 := by omega
      subst this
      exact wp_eq (e139_3 ..) (wp_ret k)
    · omega
  | m + 1, n, hn => by
    have er : gI (rI σ s2 0 (fn_cp (gI σ s1 0) x y (gI σ s2 0) n)) s1 0 (x + n) = gI σ s1 0 (x + n) := by
      rw [hI_rI]
      by_cases e : s1 = s2
      · subst e
        rw [if_pos ⟨rfl, rfl⟩]
        have := hd rfl
        unfold fn_cp
        rw [if_neg (by omega)]
      · rw [if_neg (fun g => e g.1)]
    refine wp_eq (e139_1 ..) (wp_if (fun hc => ?_) (fun hc => ?_)) <;> rw [show (41 : Int32) = Int32.ofNat 41 from rfl, io_le (by omega) (by omega)] at hc
    · omega
    · refine wp_eq (e139_2 ..) (wp_dr rfl (wp_gd t1 (wp_gd ?_ (wp_dr rfl (wp_gd t2 (wp_gd ?_ ?_))))))
      · rw [io_add]; exact zin_io (by show x + n < aLen s1; omega) b1
      · rw [io_add]; exact zin_io (by show y + n < aLen s2; omega) b2
      · rw [io_add, io_add, io_nat (by omega), io_nat (by omega), nb_un, io_add_l]
        dsimp only
        rw [er, wI_rI, cp_s]
        exact wp_sw (ml_copyRow t1 t2 l1 l2 b1 b2 hd k m (n + 1) (by omega))
theorem mc_copyRow {σ : z_St} {d s1 s2 x y : Nat} (t1 : aTy s1 = 17) (t2 : aTy s2 = 17) (l1 : x + 41 ≤ aLen s1) (l2 : y + 41 ≤ aLen s2) (b1 : aLen s1 ≤ 2147483648) (b2 : aLen s2 ≤ 2147483648) (hd : s1 = s2 → y + 41 ≤ x) {Q : z_St → Option z_V → Prop} (k : Q (rI σ s2 0 (fn_cp (gI σ s1 0) x y (gI σ s2 0) 41)) none) : wp (zD (d + 1) 139 [.inr (.inr (some (8, 0))), .inr (.inr (some (s1, 0))), .inl (Int32.ofNat x), .inr (.inr (some (s2, 0))), .inl (Int32.ofNat y)] σ) Q := by
  refine wp_eq (c139 ..) (wp_eq (e139_0 ..) ?_)
  have := ml_copyRow (d := d) t1 t2 l1 l2 b1 b2 hd k 41 0 (by omega)
  rw [cp_0, rI_id] at this
  exact this
/-- a name that was copied -/
theorem cp_nm {g h : Nat → Int32} {x y : Nat} {l : List Int32} (hn : z_nm l) (h0 : g x = Int32.ofNat l.length) (hk : ∀ k, (e : k < l.length) → g (x + 1 + k) = l[k]) : fn_cp g x y h 41 y = Int32.ofNat l.length ∧ (∀ k, (e : k < l.length) → fn_cp g x y h 41 (y + 1 + k) = l[k]) ∧ ∀ i, ¬ (y ≤ i ∧ i < y + 41) → fn_cp g x y h 41 i = h i := by
  have hl := hn.1
  refine ⟨?_, fun k e => ?_, fun i hi => if_neg hi⟩
  · unfold fn_cp
    rw [if_pos (by omega), show x + (y - y) = x by omega, h0]
    have : ∀ n, n ≤ 40 → nb (Int32.ofNat n) = Int32.ofNat n := by decide
    exact this _ hl
  · unfold fn_cp
    rw [if_pos (by omega), show x + (y + 1 + k - y) = x + 1 + k by omega, hk k e]
    exact hn.2 _ (List.getElem_mem e)
theorem wm_SNAME {T σ : z_St} {A : w_A} (h : w_M T σ A) {s : Nat} (hs : s < 16) (hz : ∀ r, r < vN A 2 0 → (vL A 4 r).length ≤ 40) {l : List Int32} (hl : l.length ≤ 40) {f : Nat → Int32} (h0 : f (41 * s) = Int32.ofNat l.length) (hk : ∀ k, (e : k < l.length) → f (41 * s + 1 + k) = l[k]) (ho : ∀ i, ¬ (41 * s ≤ i ∧ i < 41 * s + 41) → f i = gI σ 40915473 0 i) : w_M T (rI σ 40915473 0 f) (sL A 4 s l) := by
  obtain ⟨hT, hA, hB, hC, hD, hG, hH, hI, hJ, hK, hL, hM, hN⟩ := h
  have ef : ∀ i, gI (rI σ 40915473 0 f) 40915473 0 i = f i := fun i => by rw [hI_rI, if_pos ⟨rfl, rfl⟩]
  refine ⟨m_T_rI hT (z_isM_yes _ rfl), hA, hB, hC, hD, hG, hH, hI, ⟨fun r hr => ?_, fun r hr => ?_⟩, hK, hL, hM, hN⟩
  · obtain ⟨q0, q1, q2⟩ := hJ.1 r hr
    refine ⟨?_, q1, q2⟩
    by_cases e : r = s
    · exact ⟨l.length, hl, by rw [ef, e, h0]⟩
    · obtain ⟨n, hn, g⟩ := q0
      exact ⟨n, hn, by rw [ef, ho _ (by omega), g]⟩
  · have hr' : r < vN A 2 0 := hr
    obtain ⟨h1, h2, h3, h4, h5, h6, h7, h8⟩ := hJ.2 r hr'
    refine ⟨h1, h2, h3, h4, h5, ?_, h7, h8⟩
    show m_nm (rI σ 40915473 0 f) 40915473 (41 * r) (vL (sL A 4 s l) 4 r)
    rw [vL_sL]
    by_cases e : r = s
    · rw [if_pos ⟨rfl, e⟩, e]
      exact ⟨by rw [ef, h0], fun k hk' => by rw [ef]; exact hk k hk'⟩
    · rw [if_neg (fun g => e g.2)]
      refine ⟨by rw [ef, ho _ (by omega)]; exact h6.1, fun k hk' => ?_⟩
      have := hz r hr'
      rw [ef, ho _ (by omega)]
      exact h6.2 k hk'
theorem wm_SHOST {T σ : z_St} {A : w_A} (h : w_M T σ A) {s : Nat} (hs : s < 16) (hz : ∀ r, r < vN A 2 0 → (vL A 5 r).length ≤ 40) {l : List Int32} (hl : l.length ≤ 40) {f : Nat → Int32} (h0 : f (41 * s) = Int32.ofNat l.length) (hk : ∀ k, (e : k < l.length) → f (41 * s + 1 + k) = l[k]) (ho : ∀ i, ¬ (41 * s ≤ i ∧ i < 41 * s + 41) → f i = gI σ 41964049 0 i) : w_M T (rI σ 41964049 0 f) (sL A 5 s l) := by
  obtain ⟨hT, hA, hB, hC, hD, hG, hH, hI, hJ, hK, hL, hM, hN⟩ := h
  have ef : ∀ i, gI (rI σ 41964049 0 f) 41964049 0 i = f i := fun i => by rw [hI_rI, if_pos ⟨rfl, rfl⟩]
  refine ⟨m_T_rI hT (z_isM_yes _ rfl), hA, hB, hC, hD, hG, hH, hI, ⟨fun r hr => ?_, fun r hr => ?_⟩, hK, hL, hM, hN⟩
  · obtain ⟨q0, q1, q2⟩ := hJ.1 r hr
    refine ⟨q0, ?_, q2⟩
    by_cases e : r = s
    · exact ⟨l.length, hl, by rw [ef, e, h0]⟩
    · obtain ⟨n, hn, g⟩ := q1
      exact ⟨n, hn, by rw [ef, ho _ (by omega), g]⟩
  · have hr' : r < vN A 2 0 := hr
    obtain ⟨h1, h2, h3, h4, h5, h6, h7, h8⟩ := hJ.2 r hr'
    refine ⟨h1, h2, h3, h4, h5, h6, ?_, h8⟩
    show m_nm (rI σ 41964049 0 f) 41964049 (41 * r) (vL (sL A 5 s l) 5 r)
    rw [vL_sL]
    by_cases e : r = s
    · rw [if_pos ⟨rfl, e⟩, e]
      exact ⟨by rw [ef, h0], fun k hk' => by rw [ef]; exact hk k hk'⟩
    · rw [if_neg (fun g => e g.2)]
      refine ⟨by rw [ef, ho _ (by omega)]; exact h7.1, fun k hk' => ?_⟩
      have := hz r hr'
      rw [ef, ho _ (by omega)]
      exact h7.2 k hk'
theorem wm_SREALM {T σ : z_St} {A : w_A} (h : w_M T σ A) {s : Nat} (hs : s < 16) (hz : ∀ r, r < vN A 2 0 → (vL A 6 r).length ≤ 40) {l : List Int32} (hl : l.length ≤ 40) {f : Nat → Int32} (h0 : f (41 * s) = Int32.ofNat l.length) (hk : ∀ k, (e : k < l.length) → f (41 * s + 1 + k) = l[k]) (ho : ∀ i, ¬ (41 * s ≤ i ∧ i < 41 * s + 41) → f i = gI σ 43012625 0 i) : w_M T (rI σ 43012625 0 f) (sL A 6 s l) := by
  obtain ⟨hT, hA, hB, hC, hD, hG, hH, hI, hJ, hK, hL, hM, hN⟩ := h
  have ef : ∀ i, gI (rI σ 43012625 0 f) 43012625 0 i = f i := fun i => by rw [hI_rI, if_pos ⟨rfl, rfl⟩]
  refine ⟨m_T_rI hT (z_isM_yes _ rfl), hA, hB, hC, hD, hG, hH, hI, ⟨fun r hr => ?_, fun r hr => ?_⟩, hK, hL, hM, hN⟩
  · obtain ⟨q0, q1, q2⟩ := hJ.1 r hr
    refine ⟨q0, q1, ?_⟩
    by_cases e : r = s
    · exact ⟨l.length, hl, by rw [ef, e, h0]⟩
    · obtain ⟨n, hn, g⟩ := q2
      exact ⟨n, hn, by rw [ef, ho _ (by omega), g]⟩
  · have hr' : r < vN A 2 0 := hr
    obtain ⟨h1, h2, h3, h4, h5, h6, h7, h8⟩ := hJ.2 r hr'
    refine ⟨h1, h2, h3, h4, h5, h6, h7, ?_⟩
    show m_nm (rI σ 43012625 0 f) 43012625 (41 * r) (vL (sL A 6 s l) 6 r)
    rw [vL_sL]
    by_cases e : r = s
    · rw [if_pos ⟨rfl, e⟩, e]
      exact ⟨by rw [ef, h0], fun k hk' => by rw [ef]; exact hk k hk'⟩
    · rw [if_neg (fun g => e g.2)]
      refine ⟨by rw [ef, ho _ (by omega)]; exact h8.1, fun k hk' => ?_⟩
      have := hz r hr'
      rw [ef, ho _ (by omega)]
      exact h8.2 k hk'
