/-! PART 83b (src 83b.xhear.src): what the component does with a message of a peer that isn't up -/
set_option maxHeartbeats 400000
theorem from_y {f : Nat → Bool} {r k : Nat} (h : f k = true) : fn_from f (r + 1) k = some k := by rw [fn_from, if_pos h]
theorem from_n {f : Nat → Bool} {r k : Nat} (h : ¬ f k = true) : fn_from f (r + 1) k = fn_from f r (k + 1) := by rw [fn_from, if_neg h]
theorem last_s (n : Nat) (f : Nat → Bool) : fn_last (n + 1) f = if f n = true then some n else fn_last n f := by
  unfold fn_last
  rw [List.range_succ, List.reverse_append, List.reverse_singleton, List.singleton_append, List.find?_cons]
  cases f n <;> rfl
theorem last_some {n p : Nat} {f : Nat → Bool} (h : fn_last n f = some p) : p < n ∧ f p = true := by
  unfold fn_last at h
  have h1 := List.mem_of_find?_eq_some h
  have h2 := List.find?_some h
  rw [List.mem_reverse, List.mem_range] at h1
  exact ⟨h1, h2⟩
theorem xl_strange {T σ : z_St} {A : w_A} (hX : w_X T σ A) {P : w_P} (hP : vP A = some P) (hr : z_rP (vI A 64) P) {c n : Nat} (hB : z_B n A) {d : Nat} {Q : z_St → Option z_V → Prop} (k : wp (E xP38 (zD (d + 10)) 11 [some (.inr (.inr (some (0, 0)))), some (.inr (.inr (some (4, c)))), some (.inr (.inr (some (3, 0)))), some (.inr (.inr ((fn_last (vN A 0 0) fun k => fn_isT (vI A 64) P 264 (vL A 2 k)).map fun p => (9, p)))), none] [] σ) Q) : ∀ (m j : Nat), j + m = vN A 0 0 →
    wp (E xP38 (zD (d + 10)) 7 [some (.inr (.inr (some (0, 0)))), some (.inr (.inr (some (4, c)))), some (.inr (.inr (some (3, 0)))), some (.inr (.inr ((fn_last j fun k => fn_isT (vI A 64) P 264 (vL A 2 k)).map fun p => (9, p)))), some (.inl (Int32.ofNat j))] [] σ) Q
  | 0, j, hj => by
    have hp4 := hB.1.1
    refine wp_eq (e38_7 ..) (wp_if (fun h => ?_) (fun h => ?_)) <;> rw [rx_PEERS hX, io_le (by omega) (by omega)] at h
    · rw [show j = vN A 0 0 by omega]
      exact k
    · omega
  | m + 1, j, hj => by
    have hp4 := hB.1.1
    obtain ⟨hc1, hc8⟩ := rP_C hr
    have hl := rP_len hr
    have hm := rx_msg hX hP
    have hpj := ((rx_F hX).1 j (by omega)).1
    have hnm := (hB.2.2.2.2.2.2.2.2.1 j).1
    have ht := rx_PNAME hX j (by omega)
    have ih := xl_strange (d := d) hX hP hr hB k m (j + 1) (by omega)
    rw [last_s] at ih
    refine wp_eq (e38_7 ..) (wp_if (fun h => ?_) (fun h => ?_)) <;> rw [rx_PEERS hX, io_le (by omega) (by omega)] at h
    · omega
    · have zj : zin (Int32.ofNat j) (aLen 2097301) := by rw [alen_2097301]; exact zin_io (by omega) (by decide)
      refine wp_eq (e38_8 ..) (wp_dr (rx_p0_7 hX) (wp_gd (by rw [aty_2097301]; decide) (wp_gd zj ?_)))
      dsimp only
      rw [io_nat (by omega)]
      refine wp_dr hpj (wp_gd rfl (wp_dr rfl (wp_gd rfl ?_)))
      dsimp only
      rw [rx_p9_1 hX j]
      refine wp_cr (xc_isText (d := d + 8) hX hm (by omega) hc1 hc8 (fun q hf => (rP_txt hr (by decide) q hf).1) ht hnm ⟨_, rfl, wp_asI0 ?_⟩)
      refine wp_if (fun q => ?_) (fun q => ?_) <;> rw [b2i_0] at q
      · rw [if_neg q] at ih
        refine wp_eq (e38_10 ..) ?_
        rw [io_add_l]
        exact ih
      · rw [if_pos (Classical.not_not.mp q)] at ih
        refine wp_eq (e38_9 ..) (wp_dr (rx_p0_7 hX) (wp_gd (by rw [aty_2097301]; decide) (wp_gd zj ?_)))
        dsimp only
        rw [io_nat (by omega), hpj]
        refine wp_eq (e38_10 ..) ?_
        rw [io_add_l]
        exact ih
theorem xc_strange {T σ : z_St} {A : w_A} (hX : w_X T σ A) {P : w_P} (hP : vP A = some P) (hr : z_rP (vI A 64) P) {c n : Nat} (hI : z_I n A) (hT : z_LT A) (hc1 : 1 ≤ c) (hc : c ≤ 8) (hrole : ¬ vI A 13 c = 1) (hn : n + 64 < 2147483648) {d : Nat} {Q : z_St → Option z_V → Prop} (k : ∀ σ, w_X T σ (fn_strange A c P) → Q σ none) : wp (zD (d + 11) 38 [.inr (.inr (some (0, 0))), .inr (.inr (some (4, c))), .inr (.inr (some (3, 0)))] σ) Q := by
  have hB := hI.1
  have hp4 := hB.1.1
  have hm := rx_msg hX hP
  have hc0 : ¬ c = 0 := by omega
  unfold fn_strange at k
  refine wp_eq (c38 ..) (wp_eq (e38_0 ..) (wp_dr rfl (wp_gd rfl (wp_cr (xc_isReq (d := d + 9) hm.2.1 ⟨_, rfl, ?_⟩)))))
  have lost : ¬ (fn_req P ∧ pW P ≠ 0) → (¬ fn_req P ∨ pM P ≠ 257) → wp (E xP38 (zD (d + 10)) 5 [some (.inr (.inr (some (0, 0)))), some (.inr (.inr (some (4, c)))), none, none, none] [] σ) Q := by
    intro h1 h2
    rw [if_neg h1, if_pos h2] at k
    refine wp_eq (e38_5 ..) ?_
    rw [rx_LOST hX]
    refine wp_swX (wx_LOST hX _) fun σ hX => wp_dr rfl (wp_gd rfl (wp_cv (xc_close (d := d + 9) (c := c) hX fun σ hX => ⟨rfl, wp_ret (k σ hX)⟩)))
  have body3 : ¬ (fn_req P ∧ pW P ≠ 0) → wp (E xP38 (zD (d + 10)) 3 [some (.inr (.inr (some (0, 0)))), some (.inr (.inr (some (4, c)))), some (.inr (.inr (some (3, 0)))), none, none] [] σ) Q := by
    intro h1
    refine wp_eq (e38_3 ..) (wp_dr rfl (wp_gd rfl (wp_cr (xc_isReq (d := d + 9) hm.2.1 ⟨_, rfl, wp_asI0 ?_⟩))))
    refine wp_if (fun q => ?_) (fun q => ?_) <;> rw [b2i_0] at q
    · exact lost h1 (.inl q)
    have hreq : fn_req P := Classical.not_not.mp q
    refine wp_eq (e38_4 ..) (wp_dr rfl (wp_gd rfl (wp_if (fun h2 => ?_) (fun h2 => ?_)))) <;> dsimp only at h2 <;> rw [hm.2.2.1] at h2
    rotate_left
    · exact lost h1 (.inr h2)
    rw [if_neg h1, if_neg (fun q => q.elim (fun q => q hreq) (fun q => q h2))] at k
    refine wp_eq (e38_6 ..) (xl_strange (d := d) hX hP hr hB ?_ (vN A 0 0) 0 (by omega))
    have plain : ∀ (res : Int32), ¬ res = 0 → (∀ σ, w_X T σ (fn_close (fn_plain A c P res) c) → Q σ none) → ∀ a, wp (E xP38 (zD (d + 10)) 18 [some (.inr (.inr (some (0, 0)))), some (.inr (.inr (some (4, c)))), some (.inr (.inr (some (3, 0)))), some (.inr (.inr a)), none] [.inl res] σ) Q := by
      intro res h0 kk a
      refine wp_eq (e38_18 ..) (wp_if (fun h => absurd h h0) (fun _ => ?_))
      refine wp_eq (e38_19 ..) (wp_cv (xc_plain (d := d + 4) hX hc1 hc hP hr hB fun σ hX => ⟨rfl, wp_dr rfl (wp_gd rfl (wp_cv (xc_close (d := d + 9) (c := c) hX fun σ hX => ⟨rfl, wp_ret (kk σ hX)⟩)))⟩))
    cases hp : fn_last (vN A 0 0) (fun k => fn_isT (vI A 64) P 264 (vL A 2 k)) with
    | none =>
      rw [hp] at k
      refine wp_eq (e38_11 ..) (wp_if (fun _ => ?_) (fun q => absurd rfl q))
      exact wp_eq (e38_12 ..) (plain 3010 (by decide) k _)
    | some p =>
      rw [hp] at k
      have hpp : p < 4 := by have := (last_some hp).1; omega
      refine wp_eq (e38_11 ..) (wp_if (fun q => absurd q (by simp)) (fun _ => ?_))
      refine wp_eq (e38_13 ..) (wp_cr (xc_speaks (d := d + 8) hX hm hr ⟨_, rfl, ?_⟩))
      dsimp only at k
      refine wp_if (fun q => ?_) (fun q => ?_) <;> rw [b2i_0] at q
      · rw [if_pos (by simpa using q)] at k
        exact wp_eq (e38_14 ..) (plain 5010 (by decide) k _)
      rw [if_neg (by simpa using q)] at k
      refine wp_eq (e38_15 ..) (wp_dr rfl (wp_gd rfl (wp_if (fun h3 => ?_) (fun h3 => ?_)))) <;> dsimp only at h3 <;> rw [rx_ST hX p] at h3
      rotate_left
      · rw [if_pos (Int32.not_le.mp h3)] at k
        exact wp_eq (e38_16 ..) (plain 3004 (by decide) k _)
      rw [if_neg (Int32.not_lt.mpr h3)] at k
      refine wp_eq (e38_17 ..) (wp_eq (e38_18 ..) (wp_if (fun _ => ?_) (fun q => absurd rfl q)))
      refine wp_eq (e38_20 ..) (wp_dr rfl (wp_gd rfl (wp_swX (wx_CPEERs hX c p) fun σ hX => wp_dr rfl (wp_gd rfl (wp_swX (wx_CAMEs hX p hc0) fun σ hX => wp_dr rfl (wp_gd rfl (wp_dr rfl (wp_gd rfl ?_))))))))
      dsimp only
      have hm := rx_msg hX (P := P) hP
      rw [hm.2.1]
      refine wp_swX (wx_CFL hX p _) fun σ hX => wp_dr rfl (wp_gd rfl (wp_dr rfl (wp_gd rfl ?_)))
      have hm := rx_msg hX (P := P) hP
      dsimp only
      rw [hm.2.2.2.2.1]
      refine wp_swX (wx_CHOP hX p _) fun σ hX => wp_dr rfl (wp_gd rfl (wp_dr rfl (wp_gd rfl ?_)))
      have hm := rx_msg hX (P := P) hP
      dsimp only
      rw [hm.2.2.2.2.2.1]
      refine wp_swX (wx_CEND hX p _) fun σ hX => wp_dr rfl (wp_gd rfl ?_)
      have hX := x_role2 hX (i := c) hrole
      dsimp only
      have e : sI (sI (sI (sI (sN (sN A 11 c (p + 1)) 10 p c) 8 p (pF P)) 9 p (pH P)) 10 p (pE P)) 13 c 2 = sN (sN (sI (sI (sI (sI A 13 c 2) 8 p (pF P)) 9 p (pH P)) 10 p (pE P)) 11 c (p + 1)) 10 p c := by
        rw [sI_or A (show 8 < 13 by decide), sI_or _ (show 9 < 13 by decide), sI_or _ (show 10 < 13 by decide)]
        rfl
      rw [e] at hX
      have hIp : z_Ip n p (sN (sN (sI (sI (sI (sI A 13 c 2) 8 p (pF P)) 9 p (pH P)) 10 p (pE P)) 11 c (p + 1)) 10 p c) :=
        Ip_CAME (Ip_CPEER (Ip_sI (Ip_sI (Ip_sI (Ip_sI (I_p hI p) (by decide) (by decide) (by decide) (by decide) (by decide) _ _) (by decide) (by decide) (by decide) (by decide) (by decide) _ _) (by decide) (by decide) (by decide) (by decide) (by decide) _ _) (by decide) (by decide) (by decide) (by decide) (by decide) _ _) c (by omega)) hc
      have hTB : z_LT (sN (sN (sI (sI (sI (sI A 13 c 2) 8 p (pF P)) 9 p (pH P)) 10 p (pE P)) 11 c (p + 1)) 10 p c) := hT
      have hcam : ¬ vN (sN (sN (sI (sI (sI (sI A 13 c 2) 8 p (pF P)) 9 p (pH P)) 10 p (pE P)) 11 c (p + 1)) 10 p c) 10 p = 0 := by rw [vN_sN, if_pos ⟨rfl, rfl⟩]; exact hc0
      have hst : vI (sN (sN (sI (sI (sI (sI A 13 c 2) 8 p (pF P)) 9 p (pH P)) 10 p (pE P)) 11 c (p + 1)) 10 p c) 0 p = vI A 0 p := rfl
      have hrst := rx_ST hX p
      rw [hst] at hrst
      generalize sN (sN (sI (sI (sI (sI A 13 c 2) 8 p (pF P)) 9 p (pH P)) 10 p (pE P)) 11 c (p + 1)) 10 p c = B at *
      refine wp_if (fun h0 => ?_) (fun h0 => ?_) <;> rw [hrst] at h0
      · rw [if_pos h0] at k
        exact wp_eq (e38_21 ..) (wp_cv (xc_opened (d := d + 1) hX hIp hcam hn fun σ hX => ⟨rfl, wp_eq (e38_25 ..) (wp_ret (k σ hX))⟩))
      rw [if_neg h0] at k
      refine wp_eq (e38_22 ..) (wp_dr rfl (wp_gd rfl (wp_if (fun h1 => ?_) (fun h1 => ?_)))) <;> dsimp only at h1 <;> rw [hrst] at h1
      · rw [if_pos h1] at k
        exact wp_eq (e38_23 ..) (wp_cv (xc_enter (d := d + 2) hX hIp (fun q => absurd q (by decide)) (fun q => absurd q (by decide)) hn fun σ hX => ⟨rfl, wp_eq (e38_25 ..) (wp_ret (k σ hX))⟩))
      · rw [if_neg h1] at k
        exact wp_eq (e38_24 ..) (wp_cv (xc_choose (d := d) hX hpp hIp hTB hcam hn fun σ hX => ⟨rfl, wp_eq (e38_25 ..) (wp_ret (k σ hX))⟩))
  refine wp_if (fun q => ?_) (fun q => ?_) <;> rw [b2i_0] at q
  · exact body3 fun x => q x.1
  have hreq : fn_req P := Classical.not_not.mp q
  refine wp_eq (e38_1 ..) (wp_dr rfl (wp_gd rfl (wp_if (fun h2 => ?_) (fun h2 => ?_)))) <;> dsimp only at h2 <;> rw [hm.2.2.2.2.2.2.1] at h2
  · exact body3 fun x => x.2 h2
  · rw [if_pos ⟨hreq, h2⟩] at k
    exact wp_eq (e38_2 ..) (wp_cv (xc_refuse (d := d + 4) hX hc1 hc hP hr hB fun σ hX => ⟨rfl, wp_dr rfl (wp_gd rfl (wp_cv (xc_close (d := d + 9) (c := c) hX fun σ hX => ⟨rfl, wp_ret (k σ hX)⟩)))⟩))
theorem lg_eq (x y : Int64) : (lg_cmp x y = 0) = (x = y) := by
  unfold lg_cmp
  refine propext ⟨fun h => ?_, fun h => ?_⟩
  · split at h
    · exact absurd h (by decide)
    · split at h
      · assumption
      · exact absurd h (by decide)
  · subst h
    rw [if_neg (by exact Int64.lt_irrefl), if_pos rfl]
theorem xc_asking {T σ : z_St} {A : w_A} (hX : w_X T σ A) {P : w_P} (hP : vP A = some P) (hr : z_rP (vI A 64) P) {p n : Nat} (hp : p < 4) (hI : z_I n A) (ho : ¬ vN A 9 p = 0) (hz : ∀ q, vN A 11 (vN A 9 p) = q + 1 → vI A 13 (vN A 9 p) = 1 → (vI A 0 q = 3 ∨ vI A 0 q = 4) → ¬ vN A 10 q = 0) (hn : n + 64 < 2147483648) {d : Nat} {Q : z_St → Option z_V → Prop} (k : ∀ σ, w_X T σ (fn_asking A p P) → Q σ none) : wp (zD (d + 11) 40 [.inr (.inr (some (0, 0))), .inr (.inr (some (9, p))), .inr (.inr (some (3, 0)))] σ) Q := by
  have hB := hI.1
  have hm := rx_msg hX hP
  have hl := rP_len hr
  obtain ⟨hc1, hc8⟩ := rP_C hr
  have hnm := (hB.2.2.2.2.2.2.2.2.1 p).1
  have ht := rx_PNAME hX p hp
  unfold fn_asking at k
  have no : ¬ (fn_isA P 257 (vI A 5 p) ∧ fn_n (vI A 64) P 268 = 2001 ∧ fn_isT (vI A 64) P 264 (vL A 2 p) = true) → wp (E xP40 (zD (d + 10)) 4 [some (.inr (.inr (some (0, 0)))), some (.inr (.inr (some (9, p)))), none, none] [] σ) Q := by
    intro h
    rw [if_neg h] at k
    refine wp_eq (e40_4 ..) (wp_eq (e40_5 ..) (wp_if (fun _ => ?_) (fun q => absurd rfl q)))
    refine wp_eq (e40_7 ..) ?_
    rw [rx_LOST hX]
    refine wp_swX (wx_LOST hX _) fun σ hX => wp_dr rfl (wp_gd rfl ?_)
    dsimp only
    rw [rx_OWN hX p, z_one_s (show ¬ vN (sI A 14 0 (vI A 14 0 + 1)) 9 p = 0 from ho)]
    exact wp_cv (xc_endc (d := d) hX (I_lost hI) hz hn fun σ hX => ⟨rfl, wp_eq (e40_8 ..) (wp_ret (k σ hX))⟩)
  refine wp_eq (c40 ..) (wp_eq (e40_0 ..) (wp_dr rfl (wp_gd rfl ?_)))
  dsimp only
  rw [rx_OHOP hX p]
  refine wp_cr (xc_isAns (d := d + 8) hm ⟨_, rfl, wp_asI0 ?_⟩)
  refine wp_if (fun q => ?_) (fun q => ?_) <;> rw [b2i_0] at q
  · exact no fun x => q x.1
  have h1 := Classical.not_not.mp q
  refine wp_eq (e40_1 ..) (wp_dr rfl (wp_gd rfl (wp_cr (xc_number (d := d + 8) hX hm (by omega) hc1 hc8 (rP_num hr (by decide)) ⟨_, rfl, wp_asJ0 ?_⟩))))
  refine wp_if (fun q => ?_) (fun q => ?_) <;> rw [lg_eq] at q
  rotate_left
  · exact no fun x => q x.2.1
  have h2 := q
  refine wp_eq (e40_2 ..) (wp_dr rfl (wp_gd rfl (wp_dr rfl (wp_gd rfl ?_))))
  dsimp only
  rw [rx_p9_1 hX p]
  refine wp_cr (xc_isText (d := d + 8) hX hm (by omega) hc1 hc8 (fun q hf => (rP_txt hr (by decide) q hf).1) ht hnm ⟨_, rfl, wp_asI0 ?_⟩)
  refine wp_if (fun q => ?_) (fun q => ?_) <;> rw [b2i_0] at q
  · exact no fun x => q x.2.2
  have h3 := Classical.not_not.mp q
  rw [if_pos ⟨h1, h2, h3⟩] at k
  refine wp_eq (e40_3 ..) (wp_eq (e40_5 ..) (wp_if (fun q => absurd q (by decide)) (fun _ => ?_)))
  refine wp_eq (e40_6 ..) (wp_cv (xc_closeCame (d := d + 8) hX fun σ hX => ⟨rfl, ?_⟩))
  refine wp_cv (xc_enter (d := d + 2) hX (Ip_closeCame (I_p hI p)) (fun q => absurd q (by decide)) (fun _ => ?_) hn fun σ hX => ⟨rfl, wp_eq (e40_8 ..) (wp_ret (k σ hX))⟩)
  rw [closeCame_OWN]
  exact ho
/-- a message, and the watch -/
theorem xc_isHeard {T σ : z_St} {A : w_A} (hX : w_X T σ A) {P : w_P} (hP : vP A = some P) {p n c : Nat} (hB : z_B n A) {d : Nat} {Q : z_St → Option z_V → Prop}
    (k1 : ∀ σ B, w_X T σ B → fn_heard A c p P = fn_work B c p P → (B = A ∨ B = sI (sN A 8 p (vN A 5 0 + 30)) 1 p 1) → Q σ (some (.inl 1)))
    (k0 : ∀ σ, w_X T σ (fn_heard A c p P) → Q σ (some (.inl 0))) : wp (zD (d + 3) 41 [.inr (.inr (some (0, 0))), .inr (.inr (some (9, p))), .inr (.inr (some (3, 0)))] σ) Q := by
  have hm := rx_msg hX hP
  have hnow := hB.1.2.2.2.2.2
  have late : ∀ σ, w_X T σ A → ¬ (vI A 2 p ≠ 0 ∧ fn_isA P 280 (vI A 6 p)) → wp (E xP41 (zD (d + 2)) 6 [some (.inr (.inr (some (0, 0)))), some (.inr (.inr (some (9, p)))), some (.inr (.inr (some (3, 0)))), some (.inl 0), none] [] σ) Q := by
    intro σ hX hna
    have hh : fn_heard A c p P = if vI A 1 p = 1 ∨ vI A 1 p = 2 then fn_work (sI (sN A 8 p (vN A 5 0 + 30)) 1 p 1) c p P
        else if ¬ fn_req P ∨ (pM P ≠ 280 ∧ pM P ≠ 282) then fn_lost A else fn_work A c p P := by
      unfold fn_heard
      rw [if_neg hna]
    have good : (vI A 1 p = 1 ∨ vI A 1 p = 2) → wp (E xP41 (zD (d + 2)) 7 [some (.inr (.inr (some (0, 0)))), some (.inr (.inr (some (9, p)))), none, some (.inl 0), none] [] σ) Q := by
      intro hs
      rw [if_pos hs] at hh
      refine wp_eq (e41_7 ..) (wp_dr rfl (wp_gd rfl (wp_swX (wx_STAT hX p 1) fun σ hX => wp_dr rfl (wp_gd rfl ?_))))
      rw [rx_NOW hX, io_add_l]
      refine wp_swX (wx_DUE hX p _) fun σ hX => ?_
      refine wp_if (fun _ => ?_) (fun q => absurd rfl q)
      exact wp_eq (e41_8 ..) (wp_eq (e41_10 ..) (wp_gd (.inr rfl) (wp_ret (k1 σ _ hX hh (.inr rfl)))))
    have pass : ∀ σ, w_X T σ A → ¬ (vI A 1 p = 1 ∨ vI A 1 p = 2) → (¬ fn_req P ∨ (pM P ≠ 280 ∧ pM P ≠ 282)) → wp (E xP41 (zD (d + 2)) 18 [some (.inr (.inr (some (0, 0)))), none, none, none, none] [] σ) Q := by
      intro σ hX hs h
      rw [if_neg hs, if_pos h] at hh
      rw [hh] at k0
      refine wp_eq (e41_18 ..) (wp_eq (e41_20 ..) (wp_if (fun q => absurd q (by decide)) (fun _ => ?_)))
      refine wp_eq (e41_21 ..) (wp_eq (e41_23 ..) (wp_dr rfl (wp_gd rfl ?_)))
      dsimp only
      rw [rx_LOST hX]
      refine wp_swX (wx_LOST hX _) fun σ hX => wp_if (fun q => absurd q (by decide)) fun _ => ?_
      exact wp_eq (e41_25 ..) (wp_eq (e41_26 ..) (wp_gd (.inl rfl) (wp_ret (k0 σ hX))))
    have done : ∀ σ, w_X T σ A → ¬ (vI A 1 p = 1 ∨ vI A 1 p = 2) → ¬ (¬ fn_req P ∨ (pM P ≠ 280 ∧ pM P ≠ 282)) → wp (E xP41 (zD (d + 2)) 19 [some (.inr (.inr (some (0, 0)))), none, none, none, none] [] σ) Q := by
      intro σ hX hs h
      rw [if_neg hs, if_neg h] at hh
      refine wp_eq (e41_19 ..) (wp_eq (e41_20 ..) (wp_if (fun _ => ?_) (fun q => absurd rfl q)))
      refine wp_eq (e41_22 ..) (wp_eq (e41_23 ..) (wp_dr rfl (wp_gd rfl ?_)))
      dsimp only
      rw [rx_LOST hX, Int32.add_zero]
      refine wp_swX (wx_LOST hX _) fun σ hX => wp_if (fun _ => ?_) fun q => absurd rfl q
      rw [sI_id A rfl] at hX
      exact wp_eq (e41_24 ..) (wp_eq (e41_26 ..) (wp_gd (.inr rfl) (wp_ret (k1 σ A hX hh (.inl rfl)))))
    refine wp_eq (e41_6 ..) (wp_dr rfl (wp_gd rfl (wp_if (fun h => ?_) (fun h1 => ?_)))) <;> dsimp only at *
    · rw [rx_STAT hX] at h
      exact good (.inl h)
    rw [rx_STAT hX] at h1
    refine wp_if (fun h => ?_) (fun h2 => ?_)
    · rw [rx_STAT hX] at h
      exact good (.inr h)
    rw [rx_STAT hX] at h2
    have hs : ¬ (vI A 1 p = 1 ∨ vI A 1 p = 2) := fun q => q.elim h1 h2
    have hm := rx_msg hX hP
    refine wp_eq (e41_11 ..) (wp_if (fun _ => ?_) (fun q => absurd rfl q))
    refine wp_eq (e41_15 ..) (wp_dr rfl (wp_gd rfl (wp_cr (xc_isReq (d := d + 1) hm.2.1 ⟨_, rfl, wp_asI0 ?_⟩))))
    refine wp_if (fun q => ?_) (fun q => ?_) <;> rw [b2i_0] at q
    · exact pass σ hX hs (.inl q)
    have hreq : fn_req P := Classical.not_not.mp q
    refine wp_eq (e41_16 ..) (wp_dr rfl (wp_gd rfl (wp_if (fun g => ?_) (fun g1 => ?_)))) <;> dsimp only at * <;> rw [hm.2.2.1] at *
    · exact done σ hX hs fun q => q.elim (fun q => q hreq) (fun q => q.1 g)
    refine wp_eq (e41_17 ..) (wp_dr rfl (wp_gd rfl (wp_if (fun g => ?_) (fun g2 => ?_)))) <;> dsimp only at * <;> rw [hm.2.2.1] at *
    · exact done σ hX hs fun q => q.elim (fun q => q hreq) (fun q => q.2 g)
    · exact pass σ hX hs (.inr ⟨g1, g2⟩)
  refine wp_eq (c41 ..) (wp_eq (e41_0 ..) (wp_dr rfl (wp_gd rfl (wp_if (fun h => ?_) (fun h => ?_))))) <;> dsimp only at h <;> rw [rx_AWAIT hX] at h
  · exact wp_eq (e41_3 ..) (wp_eq (e41_4 ..) (wp_if (fun _ => late σ hX fun q => q.1 h) (fun q => absurd rfl q)))
  refine wp_eq (e41_1 ..) (wp_dr rfl (wp_gd rfl ?_))
  dsimp only
  rw [rx_WHOP hX p]
  refine wp_cr (xc_isAns (d := d) hm ⟨_, rfl, wp_asI0 ?_⟩)
  refine wp_if (fun q => ?_) (fun q => ?_) <;> rw [b2i_0] at q
  · exact wp_eq (e41_3 ..) (wp_eq (e41_4 ..) (wp_if (fun _ => late σ hX fun x => q x.2) (fun q => absurd rfl q)))
  have ha : vI A 2 p ≠ 0 ∧ fn_isA P 280 (vI A 6 p) := ⟨h, Classical.not_not.mp q⟩
  unfold fn_heard at k0
  rw [if_pos ha] at k0
  dsimp only at k0
  refine wp_eq (e41_2 ..) (wp_eq (e41_4 ..) (wp_if (fun q => absurd q (by decide)) (fun _ => ?_)))
  refine wp_eq (e41_5 ..) (wp_dr rfl (wp_gd rfl (wp_swX (wx_AWAIT hX p 0) fun σ hX => ?_)))
  have hst : gI σ 9 10 p = vI A 1 p := rx_STAT hX p
  have good : (vI A 1 p = 1 ∨ vI A 1 p = 2) → wp (E xP41 (zD (d + 2)) 7 [some (.inr (.inr (some (0, 0)))), some (.inr (.inr (some (9, p)))), none, some (.inl 1), none] [] σ) Q := by
    intro hs
    rw [if_pos hs] at k0
    refine wp_eq (e41_7 ..) (wp_dr rfl (wp_gd rfl (wp_swX (wx_STAT hX p 1) fun σ hX => wp_dr rfl (wp_gd rfl ?_))))
    rw [rx_NOW hX, io_add_l]
    refine wp_swX (wx_DUE hX p _) fun σ hX => ?_
    refine wp_if (fun q => absurd q (by decide)) (fun _ => ?_)
    exact wp_eq (e41_9 ..) (wp_eq (e41_10 ..) (wp_gd (.inl rfl) (wp_ret (k0 σ hX))))
  refine wp_eq (e41_6 ..) (wp_dr rfl (wp_gd rfl (wp_if (fun h => ?_) (fun h1 => ?_)))) <;> dsimp only at *
  · rw [hst] at h
    exact good (.inl h)
  rw [hst] at h1
  refine wp_if (fun h => ?_) (fun h2 => ?_)
  · rw [hst] at h
    exact good (.inr h)
  rw [hst] at h2
  rw [if_neg (fun q => q.elim h1 h2)] at k0
  have han : gI σ 9 14 p = vI A 4 p := rx_ANSW hX p
  refine wp_eq (e41_11 ..) (wp_if (fun q => absurd q (by decide)) (fun _ => ?_))
  refine wp_eq (e41_12 ..) (wp_dr rfl (wp_gd rfl (wp_dr rfl (wp_gd rfl ?_))))
  dsimp only
  rw [han]
  refine wp_swX (wx_ANSW hX p _) fun σ hX => wp_dr rfl (wp_gd rfl ?_)
  have han : gI σ 9 14 p = vI A 4 p + 1 := by rw [rx_ANSW hX p, vI_sI, if_pos ⟨rfl, rfl⟩]
  refine wp_if (fun h3 => ?_) (fun h3 => ?_) <;> dsimp only at h3 <;> rw [han] at h3
  · rw [if_pos h3] at k0
    rw [h3] at hX
    exact wp_eq (e41_13 ..) (wp_dr rfl (wp_gd rfl (wp_swX (wx_STAT hX p 1) fun σ hX => wp_eq (e41_14 ..) (wp_ret (k0 σ hX)))))
  · rw [if_neg h3] at k0
    exact wp_eq (e41_14 ..) (wp_ret (k0 σ hX))
/-- an answer to a question -/
theorem xl_askAns {T σ : z_St} {A : w_A} (hX : w_X T σ A) {P : w_P} (hP : vP A = some P) (hr : z_rP (vI A 64) P) {p n : Nat} (hB : z_B n A) {d : Nat} {Q : z_St → Option z_V → Prop} (k : ∀ σ, w_X T σ (fn_askAns A p P) → Q σ none) : ∀ (m j : Nat), j + m = vN A 3 0 → fn_first (vN A 3 0) (fun i => decide (vN A 12 i = p + 1 ∧ vJ A 4 i = 0 ∧ fn_isA P 258 (vI A 16 i))) = fn_from (fun i => decide (vN A 12 i = p + 1 ∧ vJ A 4 i = 0 ∧ fn_isA P 258 (vI A 16 i))) m j →
    wp (E xP47 (zD (d + 2)) 1 [some (.inr (.inr (some (0, 0)))), some (.inr (.inr (some (9, p)))), some (.inr (.inr (some (3, 0)))), some (.inl (Int32.ofNat j)), none] [] σ) Q
  | 0, j, hj, hf => by
    have hb := hB.1
    unfold fn_askAns at k
    rw [hf] at k
    refine wp_eq (e47_1 ..) (wp_if (fun h => ?_) (fun h => ?_)) <;> rw [rx_ASKS hX, io_le (by omega) (by omega)] at h
    · refine wp_eq (e47_8 ..) ?_
      rw [rx_LOST hX]
      exact wp_swX (wx_LOST hX _) fun σ hX => wp_ret (k σ hX)
    · omega
  | m + 1, j, hj, hf => by
    have hb := hB.1
    have hm := rx_msg hX hP
    have hl := rP_len hr
    obtain ⟨hc1, hc8⟩ := rP_C hr
    have next : ¬ (vN A 12 j = p + 1 ∧ vJ A 4 j = 0 ∧ fn_isA P 258 (vI A 16 j)) → wp (E xP47 (zD (d + 2)) 7 [some (.inr (.inr (some (0, 0)))), some (.inr (.inr (some (9, p)))), some (.inr (.inr (some (3, 0)))), some (.inl (Int32.ofNat j)), none] [] σ) Q := by
      intro h
      rw [from_n (by simpa using h)] at hf
      refine wp_eq (e47_7 ..) ?_
      rw [io_add_l]
      exact xl_askAns hX hP hr hB k m (j + 1) (by omega) hf
    refine wp_eq (e47_1 ..) (wp_if (fun h => ?_) (fun h => ?_)) <;> rw [rx_ASKS hX, io_le (by omega) (by omega)] at h
    · omega
    · refine wp_eq (e47_2 ..) (wp_dr (rx_p0_13 hX) (wp_gd (by rw [aty_5244952]; decide) (wp_gd ?_ ?_)))
      · rw [alen_5244952]; exact zin_io (by omega) (by decide)
      dsimp only
      rw [io_nat (by omega), rx_asks hX j (by omega)]
      refine wp_dr rfl (wp_gd rfl ?_)
      dsimp only
      rw [rx_QPEER hX j]
      refine wp_gd ⟨z_dyn_per _, z_dyn_some _ _ (by decide)⟩ ?_
      refine wp_if (fun h1 => ?_) (fun h1 => ?_)
      rotate_left
      · exact next fun q => h1 (by rw [q.1]; rfl)
      have h1 : vN A 12 j = p + 1 := by
        unfold z_per at h1
        split at h1
        · cases h1
        · injection h1 with h1
          injection h1 with h1 h2
          omega
      refine wp_eq (e47_3 ..) (wp_dr rfl (wp_gd rfl ?_))
      dsimp only
      rw [rx_QRES hX j]
      refine wp_if (fun h2 => ?_) (fun h2 => ?_) <;> rw [lg_eq] at h2
      rotate_left
      · exact next fun q => h2 q.2.1
      refine wp_eq (e47_4 ..) (wp_dr rfl (wp_gd rfl ?_))
      dsimp only
      rw [rx_QHOP hX j]
      refine wp_cr (xc_isAns (d := d) hm ⟨_, rfl, wp_asI0 ?_⟩)
      refine wp_if (fun q => ?_) (fun q => ?_) <;> rw [b2i_0] at q
      · exact wp_eq (e47_5 ..) (next fun x => q x.2.2)
      have h3 := Classical.not_not.mp q
      rw [from_y (decide_eq_true ⟨h1, h2, h3⟩)] at hf
      unfold fn_askAns at k
      rw [hf] at k
      refine wp_eq (e47_6 ..) (wp_dr rfl (wp_gd rfl (wp_cr (xc_number (d := d) hX hm (by omega) hc1 hc8 (rP_num hr (by decide)) ⟨_, rfl, wp_asJ0 (wp_dr rfl (wp_gd rfl (wp_swX (wx_QRES hX j _) fun σ hX => wp_ret (k σ hX))))⟩))))
theorem xc_askAns {T σ : z_St} {A : w_A} (hX : w_X T σ A) {P : w_P} (hP : vP A = some P) (hr : z_rP (vI A 64) P) {p n : Nat} (hB : z_B n A) {d : Nat} {Q : z_St → Option z_V → Prop} (k : ∀ σ, w_X T σ (fn_askAns A p P) → Q σ none) : wp (zD (d + 3) 47 [.inr (.inr (some (0, 0))), .inr (.inr (some (9, p))), .inr (.inr (some (3, 0)))] σ) Q :=
  wp_eq (c47 ..) (wp_eq (e47_0 ..) (xl_askAns hX hP hr hB k (vN A 3 0) 0 (by omega) (fn_first_from _ _)))
