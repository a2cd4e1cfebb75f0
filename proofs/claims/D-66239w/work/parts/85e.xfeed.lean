/-! PART 85e (src 85e.xfeed.src): messages of a peer that is up, octets: component -/
set_option maxHeartbeats 800000
theorem W_base {n : Nat} {A : w_A} (h : z_W n A) {c : Nat} (h1 : 1 ≤ c) (h8 : c ≤ 8) {x : Int32} (hx : nb x = x) {y : Nat} (hy : y < 600) (hg : 4 ≤ y → ∃ m, n3 (vI (sI A 64 (600 * c + vN A 14 c) x) 64) c 1 = Int32.ofNat m ∧ 20 ≤ m ∧ m ≤ 600 ∧ m % 4 = 0 ∧ y < m) : z_W n (sN (sI A 64 (600 * c + vN A 14 c) x) 14 c y) := by
  have hl6 := (h.1.1.1.2.2.2.1 c).2
  have hin := h.2.2.2.2.2.2.1 c h1 h8
  let m := vN A 14 c
  let B := sN (sI A 64 (600 * c + m) x) 14 c (m + 1)
  have eINB : ∀ k, vI B 64 k = if k = 600 * c + m then x else vI A 64 k := fun k => by
    show vI (sI A 64 (600 * c + m) x) 64 k = _
    rw [vI_sI]
    by_cases e : k = 600 * c + m
    · rw [if_pos ⟨rfl, e⟩, if_pos e]
    · rw [if_neg (fun g => e g.2), if_neg e]
  have eI : ∀ {v : Nat} (i : Nat), v ≠ 64 → vI B v i = vI A v i := fun {v} i hv => by
    show vI (sI A 64 (600 * c + m) x) v i = _
    rw [vI_sI, if_neg (fun g => hv g.1)]
  have eINL : ∀ d, vN B 14 d = if d = c then m + 1 else vN A 14 d := fun d => by
    show vN (sN (sI A 64 (600 * c + m) x) 14 c (m + 1)) 14 d = _
    rw [vN_sN]
    by_cases e : d = c
    · rw [if_pos ⟨rfl, e⟩, if_pos e]
    · rw [if_neg (fun g => e g.2), if_neg e]
      rfl
  have eN : ∀ {v : Nat} (i : Nat), v ≠ 14 → vN B v i = vN A v i := fun {v} i hv => by
    show vN (sN (sI A 64 (600 * c + m) x) 14 c (m + 1)) v i = _
    rw [vN_sN, if_neg (fun g => hv g.1)]
    rfl
  -- the buffers but for c's
  have hIB : ∀ k, nb (vI B 64 k) = vI B 64 k := fun k => by
    rw [eINB]
    split
    · exact hx
    · exact h.1.1.1.2.2.2.2.2.2.2.2.2.2.2.2 k
  have eu : ∀ d k, ¬ d = c → 1 ≤ d → d ≤ 8 → k < 600 → u8 (vI B 64) d k = u8 (vI A 64) d k := fun d k hd _ _ hk => by
    unfold u8
    rw [eINB, if_neg (by omega)]
  have hinB : ∀ d, ¬ d = c → 1 ≤ d → d ≤ 8 → 4 ≤ vN B 14 d → ∃ m, n3 (vI B 64) d 1 = Int32.ofNat m ∧ 20 ≤ m ∧ m ≤ 600 ∧ m % 4 = 0 ∧ vN B 14 d < m := fun d hd d1 d8 g => by
    rw [eINL, if_neg hd] at g ⊢
    have e : n3 (vI B 64) d 1 = n3 (vI A 64) d 1 := by
      unfold n3
      rw [eu d 1 hd d1 d8 (by decide), eu d (1 + 1) hd d1 d8 (by decide), eu d (1 + 2) hd d1 d8 (by decide)]
    rw [e]
    exact h.2.2.2.2.2.2.1 d d1 d8 g
  -- with a length for c
  have base : ∀ (y : Nat), y < 600 → (4 ≤ y → ∃ m, n3 (vI B 64) c 1 = Int32.ofNat m ∧ 20 ≤ m ∧ m ≤ 600 ∧ m % 4 = 0 ∧ y < m) → z_W n (sN B 14 c y) := by
    intro y hy hg
    obtain ⟨⟨⟨b, hL, hQ⟩, hlk, hpp⟩, ht, s1, s2, s3, s4, s5, s6, s7, s8⟩ := h
    obtain ⟨b1, b2, b3, b4, b5, b6, b7, b8, b9, b10, b11, b12, b13⟩ := b
    refine ⟨⟨⟨⟨b1, b2, b3, fun d => ⟨(b4 d).1, ?_⟩, b5, b6, b7, b8, b9, b10, b11, b12, hIB⟩, hL, hQ⟩, hlk, hpp⟩, ht, s1, s2, s3, s4, fun d d1 d8 g => ?_, s6, s7, s8⟩
    · rw [vN_sN]
      by_cases e : d = c
      · rw [if_pos ⟨rfl, e⟩]; exact hy
      · rw [if_neg (fun g => e g.2), eINL, if_neg e]; exact (b4 d).2
    · show ∃ m, n3 (vI B 64) d 1 = Int32.ofNat m ∧ 20 ≤ m ∧ m ≤ 600 ∧ m % 4 = 0 ∧ vN (sN B 14 c y) 14 d < m
      by_cases e : d = c
      · subst e
        have ey : vN (sN B 14 d y) 14 d = y := by rw [vN_sN, if_pos ⟨rfl, rfl⟩]
        rw [ey] at g ⊢
        exact hg g
      · have ey : vN (sN B 14 c y) 14 d = vN B 14 d := by rw [vN_sN, if_neg (fun g => e g.2)]
        rw [ey] at g ⊢
        exact hinB d e d1 d8 g
  have := base y hy hg
  rw [show sN B 14 c y = sN (sI A 64 (600 * c + m) x) 14 c y from sN_sN _ _ _ _ _] at this
  exact this
theorem W_CB {n : Nat} {A : w_A} (h : z_W n A) : z_CB n A := ⟨h.1.1.1, h.2.2.2.2.1, fun s hs => by have := (h.2.2.1 s hs).1; omega, h.2.2.2.2.2.2.2.2.2⟩
theorem xc_open {T σ : z_St} {A : w_A} (hX : w_X T σ A) {P : w_P} (hP : vP A = some P) {n p c : Nat} (hW : z_W n A) (hn : n + 64 < 2147483648) (hr : z_rP (vI A 64) P) (hp : p < 4) (hpp : p < vN A 0 0) (hc1 : 1 ≤ c) (hc : c ≤ 8) {d : Nat} {Q : z_St → Option z_V → Prop} (k : ∀ σ, w_X T σ (fn_work A c p P) → Q σ none) : wp (zD (d + 9) 48 [.inr (.inr (some (0, 0))), .inr (.inr (some (9, p))), .inr (.inr (some (4, c))), .inr (.inr (some (3, 0)))] σ) Q := by
  have hB := hW.1.1.1
  have hm := rx_msg hX hP
  obtain ⟨hH1, hH2⟩ := hB.2.2.2.2.2.2.2.1
  have hIB := hB.2.2.2.2.2.2.2.2.2.2.2.2
  unfold fn_work at k
  refine wp_eq (c48 ..) (wp_eq (e48_0 ..) (wp_dr rfl (wp_gd rfl (wp_cr (xc_isReq (d := d + 7) hm.2.1 ⟨_, rfl, wp_asI0 ?_⟩)))))
  refine wp_if (fun q => ?_) (fun q => ?_) <;> rw [b2i_0] at q
  · rw [if_pos q] at k
    exact wp_eq (e48_1 ..) (wp_cv (xc_askAns (d := d + 5) hX hP hr hB fun σ hX => ⟨rfl, wp_ret (k σ hX)⟩))
  have hrq : fn_req P := Classical.not_not.mp q
  rw [if_neg q] at k
  refine wp_eq (e48_2 ..) (wp_dr rfl (wp_gd rfl (wp_if (fun h => ?_) (fun h => ?_)))) <;> dsimp only at h <;> rw [hm.2.2.2.2.2.2.1] at h
  rotate_left
  · rw [if_pos h] at k
    exact wp_eq (e48_3 ..) (wp_cv (xc_refuse (d := d + 2) hX hc1 hc hP hr hB fun σ hX => ⟨rfl, wp_ret (k σ hX)⟩))
  rw [if_neg (fun g => g h)] at k
  have hw := h
  refine wp_eq (e48_4 ..) (wp_dr rfl (wp_gd rfl ?_))
  dsimp only
  rw [hm.2.2.1]
  refine wp_if (fun h => ?_) (fun h1 => ?_)
  · rw [if_pos h] at k
    exact wp_eq (e48_5 ..) (wp_cv (xc_plain (d := d + 2) hX hc1 hc hP hr hB fun σ hX => ⟨rfl, wp_eq (e48_9 ..) (wp_ret (k σ hX))⟩))
  rw [if_neg h1] at k
  refine wp_if (fun h => ?_) (fun h2 => ?_)
  · rw [if_pos h] at k
    have hlen := fn_ans_len (res := 2001) hr hH1
    have hby := fn_ans_by (res := 2001) hr hIB hH2
    refine wp_eq (e48_6 ..) (wp_cv (xc_answer (d := d + 3) hX hP hr hH1 fun σ hX => ⟨rfl, wp_dr (rx_p0_4 hX) (wp_gd rfl ?_)⟩))
    refine cvX (fun Q' k => xc_num hX (by omega) k) fun σ hX => ?_
    rw [show (1 : Int64).toInt32 = 1 from by decide] at hX
    refine wp_cv (xc_send (d := d + 5) hX hc1 hc ?_ ?_ ?_ fun σ hX => ⟨rfl, wp_eq (e48_9 ..) (wp_ret (k σ hX))⟩)
    · rw [fn_page_PG, List.length_append, fn_num_len]; omega
    · rw [fn_page_PG, List.length_append, fn_num_len]; omega
    · rw [fn_page_PG]; exact z_by_app hby (fn_num_by _ _)
  rw [if_neg h2] at k
  refine wp_if (fun h => ?_) (fun h3 => ?_)
  · rw [if_pos h] at k
    refine wp_eq (e48_7 ..) (wp_cv (xc_plain (d := d + 2) hX hc1 hc hP hr hB fun σ hX => ⟨rfl, wp_dr rfl (wp_gd rfl (wp_swX (wx_EHOP hX p 0) fun σ hX => ?_))⟩))
    have hI2 : z_I n (sI (fn_plain A c P 2001) 7 p 0) := I_sI (W_plain hW c P 2001).1.1 (by decide) (by decide) (by decide) (by decide) (by decide) _ _
    exact wp_cv (xc_enter (d := d) hX (I_p hI2 p) (fun q => absurd q (by decide)) (fun q => absurd q (by decide)) hn fun σ hX => ⟨rfl, wp_eq (e48_9 ..) (wp_ret (k σ hX))⟩)
  · rw [if_neg h3] at k
    have h272 : pM P = 272 := by
      rcases rP_req hr hw hrq with g | g | g | g
      · exact absurd g h1
      · exact absurd g h2
      · exact absurd g h3
      · exact g
    exact wp_eq (e48_8 ..) (wp_cv (xc_credit (d := d + 1) hX hP hr (W_CB hW) hW.2.2.2.2.2.1 hw hrq h272 hpp hc1 hc fun σ hX => ⟨rfl, wp_eq (e48_9 ..) (wp_ret (k σ hX))⟩))
theorem xc_hear {T σ : z_St} {A : w_A} (hX : w_X T σ A) {P : w_P} (hP : vP A = some P) {n c : Nat} (hW : z_W n A) (hn : n + 64 < 2147483648) (hr : z_rP (vI A 64) P) (hc1 : 1 ≤ c) (hc : c ≤ 8) (h2 : vI A 12 c = 2) {d : Nat} {Q : z_St → Option z_V → Prop} (k : ∀ σ, w_X T σ (fn_hear A c P) → Q σ none) : wp (zD (d + 12) 36 [.inr (.inr (some (0, 0))), .inr (.inr (some (4, c))), .inr (.inr (some (3, 0)))] σ) Q := by
  have hI := hW.1.1
  have hB := hI.1
  have hm := rx_msg hX hP
  unfold fn_hear at k
  refine wp_eq (c36 ..) (wp_eq (e36_0 ..) (wp_dr rfl (wp_gd rfl ?_)))
  dsimp only
  rw [rx_CPEER hX c]
  refine wp_if (fun h => ?_) (fun h => ?_) <;> rw [z_per_n] at h
  · rw [if_pos h] at k
    have hrole : ¬ vI A 13 c = 1 := by
      rcases hW.1.2.1.2 c hc1 hc with g | ⟨p, _, g, _⟩
      · rw [g.2.1]; decide
      · omega
    exact wp_eq (e36_1 ..) (wp_cv (xc_strange (d := d) hX hP hr hI hW.2.2.2.2.2.2.2.1 hc1 hc hrole hn fun σ hX => ⟨rfl, wp_ret (k σ hX)⟩))
  rw [if_neg h] at k
  obtain ⟨hp, hpp⟩ := peer_lt hW hc1 hc h
  dsimp only at k
  rw [z_per_p h]
  generalize hpe : vN A 11 c - 1 = p at *
  have lost : ∀ {b : Nat}, (fn_lost A = fn_lost A) → (∀ σ, w_X T σ (fn_lost A) → Q σ none) → wp (sw (wI σ 0 19 0 (vI A 14 0 + 1)) fun σ1 => E xP36 (zD (d + 11)) 12 [none, none, none, none] [] σ1) Q := fun {_} _ kk => wp_swX (wx_LOST hX _) fun σ hX => wp_eq (e36_12 ..) (wp_ret (kk σ hX))
  have l11 : (∀ σ, w_X T σ (fn_lost A) → Q σ none) → wp (E xP36 (zD (d + 11)) 11 [some (.inr (.inr (some (0, 0)))), none, none, none] [] σ) Q := fun kk => by
    refine wp_eq (e36_11 ..) ?_
    rw [rx_LOST hX]
    exact lost (b := 0) rfl kk
  have b3 : (vI A 0 p = 2 ∨ vI A 0 p = 4) → wp (E xP36 (zD (d + 11)) 3 [some (.inr (.inr (some (0, 0)))), some (.inr (.inr (some (4, c)))), some (.inr (.inr (some (3, 0)))), some (.inr (.inr (some (9, p))))] [] σ) Q := by
    intro hs
    obtain ⟨ho, hc2, hu⟩ := own_24 hW.1 hp hs
    have n7 : ¬ vI A 0 p = 7 := fun e => by rcases hs with g | g <;> rw [e] at g <;> exact absurd g (by decide)
    rw [if_neg hu, if_neg n7] at k
    refine wp_eq (e36_3 ..) (wp_dr rfl (wp_gd rfl ?_))
    dsimp only
    rw [rx_CROLE hX c]
    refine wp_if (fun q => ?_) (fun q => ?_) <;> rw [b2i_0] at q
    · rw [if_neg (fun g => q g.2)] at k
      refine wp_eq (e36_5 ..) ?_
      rw [rx_LOST hX]
      exact lost (b := 0) rfl k
    · rw [if_pos ⟨hs, Classical.not_not.mp q⟩] at k
      refine wp_eq (e36_4 ..) (wp_cv (xc_asking (d := d) hX hP hr hp hI ho (fun q hq hr' hs' => ?_) hn fun σ hX => ⟨rfl, wp_eq (e36_12 ..) (wp_ret (k σ hX))⟩))
      have hk := hW.1.2.1.1 p hp
      have := (hk.1.1 ho).2.1
      have e : q = p := by omega
      subst e
      have hps := hk.2.2
      rcases hs' with s | s <;> rw [s] at hps
      · exact (zps3 hps).2
      · exact (zps4 hps).2
  have b6 : fn_up A p → wp (E xP36 (zD (d + 11)) 6 [some (.inr (.inr (some (0, 0)))), some (.inr (.inr (some (4, c)))), some (.inr (.inr (some (3, 0)))), some (.inr (.inr (some (9, p))))] [] σ) Q := by
    intro hu
    rw [if_pos hu] at k
    refine wp_eq (e36_6 ..) (wp_cr (xc_isHeard (d := d + 8) (c := c) hX hP hB (fun σ B hX e hB2 => ⟨_, rfl, wp_asI0 ?_⟩) (fun σ hX => ⟨_, rfl, wp_asI0 ?_⟩)))
    · refine wp_if (fun q => absurd q (by decide)) (fun _ => ?_)
      rw [e] at k
      have hWB : z_W n B := by
        rcases hB2 with rfl | rfl
        · exact hW
        · exact W_fr hW (fr_sI (fr_DUE A p rfl) (by decide) (by decide) (by decide) _ _) (C_STAT (C_DUE hW.1 _ _) hu (.inl rfl))
      have eIN : vI B 64 = vI A 64 := by rcases hB2 with rfl | rfl <;> rfl
      have ePP : vN B 0 0 = vN A 0 0 := by rcases hB2 with rfl | rfl <;> rfl
      have eP : vP B = some P := by rcases hB2 with rfl | rfl <;> exact hP
      exact wp_eq (e36_7 ..) (wp_cv (xc_open (d := d + 2) hX eP hWB hn (by rw [eIN]; exact hr) hp (by rw [ePP]; exact hpp) hc1 hc fun σ hX => ⟨rfl, wp_eq (e36_12 ..) (wp_ret (k σ hX))⟩))
    · exact wp_if (fun _ => wp_eq (e36_12 ..) (wp_ret (k σ hX))) (fun q => absurd rfl q)
  refine wp_eq (e36_2 ..) (wp_dr rfl (wp_gd rfl ?_))
  dsimp only
  rw [rx_ST hX p]
  refine wp_if (fun s => b3 (.inl s)) (fun s2 => ?_)
  refine wp_if (fun s => ?_) (fun s3 => ?_)
  · rw [if_neg (up_not s (by decide) (by decide)), if_neg (by rw [s]; decide), if_neg (fun g => g.1.elim (fun g => by rw [s] at g; exact absurd g (by decide)) (fun g => by rw [s] at g; exact absurd g (by decide)))] at k
    exact l11 k
  refine wp_if (fun s => b3 (.inr s)) (fun s4 => ?_)
  refine wp_if (fun s => b6 (.inl s)) (fun s5 => ?_)
  refine wp_if (fun s => b6 (.inr s)) (fun s6 => ?_)
  refine wp_if (fun s => ?_) (fun s7 => ?_)
  · rw [if_neg (up_not s (by decide) (by decide)), if_pos s] at k
    unfold fn_ending at k
    refine wp_eq (e36_8 ..) (wp_dr rfl (wp_gd rfl ?_))
    dsimp only
    rw [rx_EHOP hX p]
    refine wp_cr (xc_isAns (d := d + 9) hm ⟨_, rfl, wp_asI0 ?_⟩)
    refine wp_if (fun q => ?_) (fun q => ?_) <;> rw [b2i_0] at q
    · rw [if_neg q] at k
      refine wp_eq (e36_10 ..) ?_
      rw [rx_LOST hX]
      exact lost (b := 0) rfl k
    · rw [if_pos (Classical.not_not.mp q)] at k
      exact wp_eq (e36_9 ..) (wp_cv (xc_shut (d := d + 2) hX (I_p hI p) hn fun σ hX => ⟨rfl, wp_eq (e36_12 ..) (wp_ret (k σ hX))⟩))
  · rw [if_neg (fun g => g.elim s5 s6), if_neg s7, if_neg (fun g => g.1.elim s2 s4)] at k
    exact l11 k
/-! octets -/
theorem wx_INB {T σ : z_St} {A : w_A} (h : w_X T σ A) {c m : Nat} (hm : m < 600) (x : Int32) : w_X T (wI σ 73419537 c m x) (sI A 64 (600 * c + m) x) := by
  obtain ⟨hT, hA, hB, hC, hD, hE, hF, hG, hH, hI, hJ, hK, hL, hM, hN⟩ := h
  refine ⟨x_T_wI hT (z_isM_dec _ rfl), hA, hB, hC, hD, hE, hF, hG, hH, fun e e1 e8 k hk => ?_, hJ, hK, hL, hM, hN⟩
  rw [gI_wI, vI_sI]
  by_cases g : e = c ∧ k = m
  · obtain ⟨rfl, rfl⟩ := g
    rw [if_pos ⟨rfl, rfl, rfl⟩, if_pos ⟨rfl, rfl⟩]
  · rw [if_neg (fun q => g q.2), if_neg (fun q => g (by have := q.2; omega))]
    exact hI e e1 e8 k hk
theorem x_Pn {T σ : z_St} {A : w_A} (h : w_X T σ A) : w_X T σ (sP A none) := by
  obtain ⟨hT, hA, hB, hC, hD, hE, hF, hG, hH, hI, hJ, hK, hL, hM, hN⟩ := h
  exact ⟨hT, hA, hB, hC, hD, hE, hF, hG, hH, hI, hJ, hK, hL, fun P e => absurd (show (none : Option w_P) = some P from e) (by simp), hN⟩
def fn_cFeed (A : w_A) (x : Int32) (a b c e : Int64) (n : Int32) : w_A × Int32 := match fn_pk 8 x with
  | none => (A, -1)
  | some k => if vI A 12 (k + 1) = 2 then (if 1 ≤ n ∧ n ≤ 32 then ((fn_feed (k + 1) (fn_byte a b c e) n.toNatClampNeg n.toNatClampNeg A 0).1, Int32.ofNat (fn_feed (k + 1) (fn_byte a b c e) n.toNatClampNeg n.toNatClampNeg A 0).2) else (A, -2)) else (A, -1)
theorem feed_s (c : Nat) (x : Nat → Int32) (n f : Nat) (A : w_A) (z : Nat) : fn_feed c x n (f + 1) A z = if vI A 12 c = 2 then fn_feed c x n f (fn_octet A c (x (n - (f + 1)))).1 (z + (fn_octet A c (x (n - (f + 1)))).2) else (A, z) := rfl
theorem octet_P (A : w_A) (c : Nat) (x : Int32) (h : vP A = none) : vP (fn_octet A c x).1 = none := by
  unfold fn_octet
  dsimp only
  split
  · exact h
  split
  · rw [(fr_end _ c).2.2.1]; exact h
  split
  · rfl
  · exact h
theorem and7 {k : Nat} (h : k < 32) : (Int32.ofNat k &&& 7) = Int32.ofNat (k % 8) := by
  have : ∀ k, k < 32 → (Int32.ofNat k &&& 7) = Int32.ofNat (k % 8) := by decide
  exact this k h
/-- a feed's octet, one step -/
theorem xl_octet {T σ : z_St} {A : w_A} (hX : w_X T σ A) (hP : vP A = none) {n c : Nat} (hW : z_W n A) (hn : n + 64 < 2147483648) (hc1 : 1 ≤ c) (hc : c ≤ 8) (h2 : vI A 12 c = 2) {j : Nat} (hj : j < 32) {v y2 y4 y6 y8 : Int64} {x10 : Int32} {dn : Nat} (hb : fn_byte y2 y4 y6 y8 j = ((v >>> (Int32.toInt64 (56 - 8 * Int32.ofNat (j % 8)) &&& 63)).toInt32.toInt8.toInt32)) {d : Nat} {Q : z_St → Option z_V → Prop} (k : ∀ σ, w_X T σ (fn_octet A c (fn_byte y2 y4 y6 y8 j)).1 → wp (E xP35 (zD (d + 12)) 23 [some (.inr (.inr (some (0, 0)))), none, some (.inr (.inl y2)), none, some (.inr (.inl y4)), none, some (.inr (.inl y6)), none, some (.inr (.inl y8)), none, some (.inl x10), some (.inr (.inr (some (4, c)))), some (.inl (Int32.ofNat (dn + (fn_octet A c (fn_byte y2 y4 y6 y8 j)).2))), some (.inl (Int32.ofNat j)), none, none, none] [] σ) Q) :
    wp (E xP35 (zD (d + 12)) 15 [some (.inr (.inr (some (0, 0)))), none, some (.inr (.inl y2)), none, some (.inr (.inl y4)), none, some (.inr (.inl y6)), none, some (.inr (.inl y8)), none, some (.inl x10), some (.inr (.inr (some (4, c)))), some (.inl (Int32.ofNat dn)), some (.inl (Int32.ofNat j)), none, none, none] [.inr (.inl v)] σ) Q := by
  have hl6 := (hW.1.1.1.2.2.2.1 c).2
  have hin := hW.2.2.2.2.2.2.1 c hc1 hc
  have hnb := byte_nb y2 y4 y6 y8 j
  generalize hx : fn_byte y2 y4 y6 y8 j = x at *
  generalize hm : vN A 14 c = m at *
  refine wp_eq (e35_15 ..) (wp_dr rfl (wp_gd rfl (wp_dr rfl (wp_gd rfl (wp_dr rfl (wp_gd rfl ?_))))))
  dsimp only
  rw [rx_INL hX c, hm, io_add_l]
  refine wp_swX (wx_INL hX c _) fun σ' hX' => wp_dr (rx_p4_4 hX c) (wp_gd aty_73419537 (wp_gd ?_ ?_))
  · rw [alen_73419537]; exact zin_io (by omega) (by decide)
  dsimp only
  rw [and7 hj, io_nat (by omega), Int8.toInt8_toInt32, ← hb]
  clear hX
  refine wp_swX (wx_INB hX' (show m < 600 by omega) x) fun σ hX => wp_dr rfl (wp_gd rfl ?_)
  dsimp only
  have hX : w_X T σ (sN (sI A 64 (600 * c + m) x) 14 c (m + 1)) := hX
  have hW0 := W_base hW hc1 hc hnb (y := 0) (by decide) (fun g => by omega)
  rw [hm] at hW0
  unfold fn_octet at k
  rw [hm] at k
  dsimp only at k
  have e5 : gI σ 4 5 c = Int32.ofNat (m + 1) := by rw [rx_INL hX c, vN_sN, if_pos ⟨rfl, rfl⟩]
  have hself : sN (sN (sI A 64 (600 * c + m) x) 14 c (m + 1)) 14 c 0 = sN (sI A 64 (600 * c + m) x) 14 c 0 := sN_sN _ _ _ _ _
  rw [hself] at k
  generalize hB : sN (sI A 64 (600 * c + m) x) 14 c (m + 1) = B at *
  generalize hD : sN (sI A 64 (600 * c + m) x) 14 c 0 = D at *
  have hDB : sN B 14 c 0 = D := hself
  have hBI : m + 1 < 600 → z_I n B := fun h600 => by
    have : sN D 14 c (m + 1) = B := by rw [← hD, ← hB]; exact sN_sN _ _ _ _ _
    rw [← this]
    exact ⟨(Ip_INL (I_p hW0.1.1 0) c h600).1, hW0.1.1.2⟩
  have heq3 : 4 ≤ m → n3 (vI B 64) c 1 = n3 (vI A 64) c 1 := fun h4 => by
    have e : ∀ k, ¬ k = 600 * c + m → vI B 64 k = vI A 64 k := fun k hk => by
      rw [← hB]
      show vI (sI A 64 (600 * c + m) x) 64 k = _
      rw [vI_sI, if_neg (fun g => hk g.2)]
    unfold n3 u8
    rw [e _ (by omega), e _ (by omega), e _ (by omega)]
  have hPB : vP B = none := by rw [← hB]; exact hP
  have hPD : vP D = none := by rw [← hD]; exact hP
  have eIN : vI D 64 = vI B 64 := by rw [← hDB]; rfl
  have hg3 := gv3_lt (vI B 64) c 1
  have hn3 := n3_io (vI B 64) c 1
  have hr : ∀ i, i < 600 → gI σ 73419537 c i &&& 255 = u8 (vI B 64) c i := fun i hi => by rw [rx_I hX c hc1 hc i hi]; rfl
  have e5' : gI σ 4 5 c = Int32.ofNat (m + 1) := e5
  rw [e5]
  refine wp_if (fun h => ?_) (fun h => ?_) <;> rw [io_lle (by omega) (by decide)] at h
  rotate_left
  · have h : ¬ 4 ≤ m + 1 := h
    rw [if_pos (show m + 1 < 4 by omega)] at k
    exact wp_eq (e35_16 ..) (k σ hX)
  have h : 4 ≤ m + 1 := h
  rw [if_neg (show ¬ m + 1 < 4 by omega)] at k
  have z1 : zin 1 (aLen 73419537) := by rw [alen_73419537]; exact zin_io (k := 1) (by decide) (by decide)
  have z2 : zin 2 (aLen 73419537) := by rw [alen_73419537]; exact zin_io (k := 2) (by decide) (by decide)
  have z3 : zin 3 (aLen 73419537) := by rw [alen_73419537]; exact zin_io (k := 3) (by decide) (by decide)
  refine wp_eq (e35_17 ..) (wp_dr rfl (wp_gd rfl (wp_dr (rx_p4_4 hX c) (wp_gd aty_73419537 (wp_gd z1 (wp_dr rfl (wp_gd rfl (wp_dr (rx_p4_4 hX c) (wp_gd aty_73419537 (wp_gd z2 (wp_dr rfl (wp_gd rfl (wp_dr (rx_p4_4 hX c) (wp_gd aty_73419537 (wp_gd z3 ?_)))))))))))))))
  dsimp only
  rw [show Int32.toNatClampNeg 1 = 1 from rfl, show Int32.toNatClampNeg 2 = 2 from rfl, show Int32.toNatClampNeg 3 = 3 from rfl, hr 1 (by decide), hr 2 (by decide), hr 3 (by decide)]
  rw [show ((u8 (vI B 64) c 1 <<< (16 &&& 31) ||| u8 (vI B 64) c 2 <<< (8 &&& 31)) ||| u8 (vI B 64) c 3) = n3 (vI B 64) c 1 from rfl]
  have bad : (n3 (vI B 64) c 1 < 20 ∨ 600 < n3 (vI B 64) c 1 ∨ (n3 (vI B 64) c 1).toNatClampNeg % 4 ≠ 0) → wp (E xP35 (zD (d + 12)) 20 [some (.inr (.inr (some (0, 0)))), none, some (.inr (.inl y2)), none, some (.inr (.inl y4)), none, some (.inr (.inl y6)), none, some (.inr (.inl y8)), none, some (.inl x10), some (.inr (.inr (some (4, c)))), some (.inl (Int32.ofNat dn)), some (.inl (Int32.ofNat j)), none, none, none] [] σ) Q := by
    intro hbad
    rw [if_pos hbad] at k
    have h600 : m + 1 < 600 := by
      refine Classical.byContradiction fun g => ?_
      obtain ⟨m', e1, e2, e3, e4, e6⟩ := hin (by omega)
      rw [heq3 (by omega), e1, io_nat (by omega), io_lt_l (by omega) (by decide), io_llt (by omega) (by decide)] at hbad
      rcases hbad with q | q | q
      · have q : m' < 20 := q
        omega
      · have q : 600 < m' := q
        omega
      · exact q e4
    refine wp_eq (e35_20 ..) (wp_cv (xc_endc (d := d + 2) hX (hBI h600) (fun p hp hr' hs' => ?_) hn fun σ hX => ⟨rfl, k σ hX⟩))
    have hlkD := hW0.1.2.1
    have eD : vN D 11 c = p + 1 ∧ vI D 13 c = 1 ∧ (vI D 0 p = 3 ∨ vI D 0 p = 4) ∧ vN D 10 p = vN B 10 p := by rw [← hDB]; exact ⟨hp, hr', hs', rfl⟩
    obtain ⟨d1, d2, d3, d4⟩ := eD
    rw [← d4]
    rcases hlkD.2 c hc1 hc with g | ⟨q, hq, g1, g2⟩
    · omega
    · have e : q = p := by omega
      subst e
      have hps := (hlkD.1 q hq).2.2
      rcases d3 with s | s <;> rw [s] at hps
      · exact (zps3 hps).2
      · exact (zps4 hps).2
  refine wp_if (fun h20 => bad (.inl h20)) (fun h20 => ?_)
  refine wp_eq (e35_18 ..) (wp_if (fun h6 => bad (.inr (.inl h6))) (fun h6 => ?_))
  have w20 : 20 ≤ gv (vI B 64) c 1 3 := by
    rw [hn3, io_lt_l (by omega) (by decide)] at h20
    exact Nat.le_of_not_lt h20
  have w600 : gv (vI B 64) c 1 3 ≤ 600 := by
    rw [hn3, io_llt (by omega) (by decide)] at h6
    exact Nat.le_of_not_lt h6
  refine wp_eq (e35_19 ..) ?_
  have e4 : (n3 (vI B 64) c 1 - n3 (vI B 64) c 1 / 4 * 4 = 0) = ((n3 (vI B 64) c 1).toNatClampNeg % 4 = 0) := by
    rw [hn3, io_mod_l (by omega) (by decide), io_nat (by omega), io_eq_l (by omega) (by decide)]
  refine wp_if (fun h4 => ?_) (fun h4 => ?_) <;> rw [e4] at h4
  rotate_left
  · exact bad (.inr (.inr h4))
  rw [if_neg (fun g => g.elim h20 (fun g => g.elim h6 (fun g => g h4)))] at k
  refine wp_eq (e35_21 ..) (wp_dr rfl (wp_gd rfl ?_))
  dsimp only
  rw [e5']
  refine wp_if (fun he => ?_) (fun he => ?_)
  rotate_left
  · rw [if_neg (fun g => he g.symm)] at k
    exact k σ hX
  rw [if_pos he.symm] at k
  have hm1 : m + 1 = gv (vI B 64) c 1 3 := by
    rw [hn3, io_inj (by omega) (by omega)] at he
    exact he
  refine wp_eq (e35_22 ..) (wp_dr rfl (wp_gd rfl (wp_swX (wx_INL hX c 0) fun σ hX => wp_dr rfl (wp_gd rfl (wp_dr (rx_p0_5 hX) (wp_gd rfl ?_))))))
  dsimp only
  rw [hDB] at hX
  rw [rx_p4_4 hX c, ← he]
  refine wp_cv (xc_read (d := d + 3) hX hPD hc1 hc (n := m + 1) (by omega) (by omega) hW0.1.1.1.2.2.2.2.2.2.2.2.2.2.2.2 fun σ hX => ⟨rfl, ?_⟩)
  rw [rx_p0_5 hX, io_add_l]
  exact wp_cv (xc_hear (d := d) (P := fn_read (vI D 64) c (m + 1)) hX rfl (W_P hW0 _) hn ⟨c, m + 1, hc1, hc, by omega, by omega, rfl⟩ hc1 hc (by rw [← hD]; exact h2) fun σ hX => ⟨rfl, k σ (x_Pn hX)⟩)
theorem xl_feed {T : z_St} {c : Nat} (hc1 : 1 ≤ c) (hc : c ≤ 8) {y2 y4 y6 y8 : Int64} {N : Nat} (hN : N ≤ 32) {d : Nat} {Q : z_St → Option z_V → Prop} : ∀ (f n : Nat) (A : w_A) (σ : z_St) (dn : Nat), f ≤ N → w_X T σ A → vP A = none → z_W n A → n + 64 * f < 2147483648 → (∀ σ, w_X T σ (fn_feed c (fn_byte y2 y4 y6 y8) N f A dn).1 → Q σ (some (.inl (Int32.ofNat (fn_feed c (fn_byte y2 y4 y6 y8) N f A dn).2)))) →
    wp (E xP35 (zD (d + 12)) 6 [some (.inr (.inr (some (0, 0)))), none, some (.inr (.inl y2)), none, some (.inr (.inl y4)), none, some (.inr (.inl y6)), none, some (.inr (.inl y8)), none, some (.inl (Int32.ofNat N)), some (.inr (.inr (some (4, c)))), some (.inl (Int32.ofNat dn)), some (.inl (Int32.ofNat (N - f))), none, none, none] [] σ) Q
  | 0, n, A, σ, dn, hf, hX, hP, hW, hn, k => by
    refine wp_eq (e35_6 ..) (wp_if (fun h => ?_) (fun h => ?_)) <;> rw [io_le (by omega) (by omega)] at h
    · exact wp_eq (e35_24 ..) (wp_ret (k σ hX))
    · omega
  | f + 1, n, A, σ, dn, hf, hX, hP, hW, hn, k => by
    rw [feed_s] at k
    refine wp_eq (e35_6 ..) (wp_if (fun h => ?_) (fun h => ?_)) <;> rw [io_le (by omega) (by omega)] at h
    · omega
    refine wp_eq (e35_7 ..) (wp_dr rfl (wp_gd rfl (wp_cr (xc_isOpen (d := d + 11) hX fun σ v hX hv => ⟨_, hv, wp_asI0 ?_⟩))))
    refine wp_if (fun q => ?_) (fun q => ?_) <;> rw [b2i_0] at q
    · rw [if_neg q] at k
      exact wp_eq (e35_24 ..) (wp_ret (k σ hX))
    have h2 := Classical.not_not.mp q
    rw [if_pos h2] at k
    generalize hj : N - (f + 1) = j at *
    have hj32 : j < 32 := by omega
    have hW2 := W_octet hW (by omega) hc1 hc h2 (byte_nb y2 y4 y6 y8 j)
    have hP2 := octet_P A c (fn_byte y2 y4 y6 y8 j) hP
    have go : ∀ σ, w_X T σ (fn_octet A c (fn_byte y2 y4 y6 y8 j)).1 → wp (E xP35 (zD (d + 12)) 23 [some (.inr (.inr (some (0, 0)))), none, some (.inr (.inl y2)), none, some (.inr (.inl y4)), none, some (.inr (.inl y6)), none, some (.inr (.inl y8)), none, some (.inl (Int32.ofNat N)), some (.inr (.inr (some (4, c)))), some (.inl (Int32.ofNat (dn + (fn_octet A c (fn_byte y2 y4 y6 y8 j)).2))), some (.inl (Int32.ofNat j)), none, none, none] [] σ) Q := by
      intro σ hX
      refine wp_eq (e35_23 ..) ?_
      rw [io_add_l, show j + 1 = N - f by omega]
      exact xl_feed hc1 hc hN f (n + 64) _ σ _ (by omega) hX hP2 hW2 (by omega) k
    have b8 : (8 ≤ Int32.ofNat j) = (8 ≤ j) := io_lle (by omega) (by decide)
    have b16 : (16 ≤ Int32.ofNat j) = (16 ≤ j) := io_lle (by omega) (by decide)
    have b24 : (24 ≤ Int32.ofNat j) = (24 ≤ j) := io_lle (by omega) (by decide)
    refine wp_eq (e35_8 ..) (wp_if (fun h => ?_) (fun h => ?_)) <;> rw [b8] at h
    · refine wp_eq (e35_10 ..) (wp_if (fun h => ?_) (fun h => ?_)) <;> rw [b16] at h
      · refine wp_eq (e35_12 ..) (wp_if (fun h => ?_) (fun h => ?_)) <;> rw [b24] at h
        · refine wp_eq (e35_14 ..) (xl_octet hX hP hW (by omega) hc1 hc h2 hj32 (v := y8) ?_ go)
          unfold fn_byte
          rw [if_neg (by omega), if_neg (by omega), if_neg (by omega)]
        · refine wp_eq (e35_13 ..) (xl_octet hX hP hW (by omega) hc1 hc h2 hj32 (v := y6) ?_ go)
          unfold fn_byte
          rw [if_neg (by omega), if_neg (by omega), if_pos (by omega)]
      · refine wp_eq (e35_11 ..) (xl_octet hX hP hW (by omega) hc1 hc h2 hj32 (v := y4) ?_ go)
        unfold fn_byte
        rw [if_neg (by omega), if_pos (by omega)]
    · refine wp_eq (e35_9 ..) (xl_octet hX hP hW (by omega) hc1 hc h2 hj32 (v := y2) ?_ go)
      unfold fn_byte
      rw [if_pos (by omega)]
theorem io_of {n : Int32} (h : 1 ≤ n ∧ n ≤ 32) : ∃ N, N ≤ 32 ∧ n = Int32.ofNat N ∧ n.toNatClampNeg = N := by
  have h1 : 1 ≤ n.toInt := Int32.le_iff_toInt_le.mp h.1
  have h2 : n.toInt ≤ 32 := Int32.le_iff_toInt_le.mp h.2
  refine ⟨n.toInt.toNat, by omega, ?_, rfl⟩
  apply Int32.toInt_inj.mp
  rw [io_toInt (by omega)]
  omega
theorem xc_feed {T σ : z_St} {A : w_A} (hX : w_X T σ A) (hP : vP A = none) {n : Nat} (hW : z_W n A) (hn : n + 2048 < 2147483648) {x N : Int32} {y2 y4 y6 y8 : Int64} {d : Nat} {Q : z_St → Option z_V → Prop} (k : ∀ σ v, w_X T σ (fn_cFeed A x y2 y4 y6 y8 N).1 → v = some (.inl (fn_cFeed A x y2 y4 y6 y8 N).2) → Q σ v) : wp (zD (d + 13) 35 [.inr (.inr (some (0, 0))), .inl x, .inr (.inl y2), .inr (.inl y4), .inr (.inl y6), .inr (.inl y8), .inl N] σ) Q := by
  unfold fn_cFeed at k
  refine wp_eq (c35 ..) (wp_eq (e35_0 ..) (wp_cr (xc_linkAt (d := d + 10) hX fun v hv => ⟨_, hv, wp_asR0 ?_⟩)))
  cases hp : fn_pk 8 x with
  | none =>
    rw [hp] at k
    exact wp_if (fun _ => wp_eq (e35_2 ..) (wp_ret (k _ _ hX rfl))) (fun q => absurd rfl q)
  | some c =>
    obtain ⟨hc8, -⟩ := pk_some (by omega) hp
    rw [hp] at k
    dsimp only at k
    refine wp_if (fun q => absurd q (by simp)) (fun _ => ?_)
    refine wp_eq (e35_1 ..) (wp_dr rfl (wp_gd rfl (wp_cr (xc_isOpen (d := d + 11) hX fun σ v hX hv => ⟨_, hv, wp_asI0 ?_⟩))))
    refine wp_if (fun q => ?_) (fun q => ?_) <;> rw [b2i_0] at q
    · rw [if_neg q] at k
      exact wp_eq (e35_2 ..) (wp_ret (k _ _ hX rfl))
    rw [if_pos (Classical.not_not.mp q)] at k
    refine wp_eq (e35_3 ..) (wp_cr (xc_isIn (d := d + 11) fun v hv => ⟨_, hv, wp_asI0 ?_⟩))
    have e1 : (1 ≤ N.toInt64 ∧ N.toInt64 ≤ 32) = (1 ≤ N ∧ N ≤ 32) := by
      rw [← i64_le 1 N, ← i64_le N 32]
      rfl
    refine wp_if (fun q => ?_) (fun q => ?_) <;> rw [b2i_0, e1] at q
    · rw [if_neg q] at k
      exact wp_eq (e35_4 ..) (wp_ret (k _ _ hX rfl))
    have q := Classical.not_not.mp q
    rw [if_pos q] at k
    obtain ⟨M, hM, rfl, hM2⟩ := io_of q
    rw [hM2] at k
    refine wp_eq (e35_5 ..) ?_
    have := xl_feed (T := T) (c := c + 1) (by omega) (by omega) (y2 := y2) (y4 := y4) (y6 := y6) (y8 := y8) (N := M) hM (d := d) (Q := Q) M n A σ 0 (Nat.le_refl _) hX hP hW (by omega) (fun σ hX => k σ _ hX rfl)
    rw [Nat.sub_self] at this
    exact this
