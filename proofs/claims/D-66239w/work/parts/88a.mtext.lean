/-! PART 88a (src 88a.mtext.src): the twin copies texts, finds accounts, sessions, units -/
set_option maxHeartbeats 800000
theorem ml_copyText {T σ : z_St} {A : w_A} (hM : w_M T σ A) {c k p n y s2 : Nat} (hb : gI σ 8 67 0 = Int32.ofNat (600 * c)) (hc : c ≤ 8) (hk12 : k < 12) (hp : gI σ 66060688 0 k = Int32.ofNat p) (hn : gI σ 67109264 0 k = Int32.ofNat n) (hpn : p + n ≤ 600) (hn40 : n ≤ 40) (t2 : aTy s2 = 17) (l2 : y + 41 ≤ aLen s2) (b2 : aLen s2 ≤ 2147483648) (hne : ¬ s2 = 8 ∧ ¬ s2 = 31630097 ∧ ¬ s2 = 66060688 ∧ ¬ s2 = 67109264) {h : Nat → Int32} {d : Nat} {Q : z_St → Option z_V → Prop} (q : Q (rI σ s2 0 (fn_cp (gI σ 31630097 0) (600 * c + p) (y + 1) h n)) none) : ∀ (m j : Nat), j + m = n →
    wp (E xP138 (zD d) 1 [some (.inr (.inr (some (8, 0)))), some (.inl (Int32.ofNat k)), some (.inr (.inr (some (s2, 0)))), some (.inl (Int32.ofNat y)), some (.inl (Int32.ofNat j))] [] (rI σ s2 0 (fn_cp (gI σ 31630097 0) (600 * c + p) (y + 1) h j))) Q
  | 0, j, hj => by
    have hk31 : k < 2147483648 := by omega
    have hR78 := rm_p78 hM
    have rn : gI (rI σ s2 0 (fn_cp (gI σ 31630097 0) (600 * c + p) (y + 1) h j)) 67109264 0 k = Int32.ofNat n := by rw [hI_rI, if_neg (fun g => hne.2.2.2 g.1.symm), hn]
    have hR77 := rm_p77 hM
    have hR29 := rm_p29 hM
    refine wp_eq (e138_1 ..) (wp_ar (k := k) hR78 aty_67109264 alen_67109264 rfl (by omega) (by decide) ?_)
    dsimp only
    rw [io_nat hk31, rn]
    refine wp_if (fun _ => ?_) (fun g => ?_)
    · have : j = n := by omega
      subst this
      exact wp_eq (e138_3 ..) (wp_ret q)
    · rw [io_le (by omega) (by omega)] at g
      omega
  | m + 1, j, hj => by
    have hk31 : k < 2147483648 := by omega
    have hR78 := rm_p78 hM
    have rn : gI (rI σ s2 0 (fn_cp (gI σ 31630097 0) (600 * c + p) (y + 1) h j)) 67109264 0 k = Int32.ofNat n := by rw [hI_rI, if_neg (fun g => hne.2.2.2 g.1.symm), hn]
    have hR77 := rm_p77 hM
    have hR29 := rm_p29 hM
    refine wp_eq (e138_1 ..) (wp_ar (k := k) hR78 aty_67109264 alen_67109264 rfl (by omega) (by decide) ?_)
    dsimp only
    rw [io_nat hk31, rn]
    refine wp_if (fun g => ?_) (fun _ => ?_)
    · rw [io_le (by omega) (by omega)] at g
      omega
    refine wp_eq (e138_2 ..) (wp_ar (k := k) hR77 aty_66060688 alen_66060688 rfl (by omega) (by decide) ?_)
    have r67 : gI (rI σ s2 0 (fn_cp (gI σ 31630097 0) (600 * c + p) (y + 1) h j)) 8 67 0 = Int32.ofNat (600 * c) := by rw [hI_rI, if_neg (fun g => hne.1 g.1.symm), hb]
    have rp : gI (rI σ s2 0 (fn_cp (gI σ 31630097 0) (600 * c + p) (y + 1) h j)) 66060688 0 k = Int32.ofNat p := by rw [hI_rI, if_neg (fun g => hne.2.2.1 g.1.symm), hp]
    have rin : gI (rI σ s2 0 (fn_cp (gI σ 31630097 0) (600 * c + p) (y + 1) h j)) 31630097 0 (600 * c + p + j) = gI σ 31630097 0 (600 * c + p + j) := by rw [hI_rI, if_neg (fun g => hne.2.1 g.1.symm)]
    simp only [io_nat hk31, r67, rp, io_add]
    refine (wp_ar (k := 600 * c + p + j) hR29 aty_31630097 alen_31630097 rfl (by omega) (by decide) ?_)
    simp only [io_add_l, io_add]
    refine wp_dr rfl (wp_gd t2 (wp_gd (zin_io (show y + 1 + j < aLen s2 by omega) b2) ?_))
    rw [io_nat (by omega), io_nat (by omega), nb_un]
    dsimp only
    rw [rin, wI_rI, cp_s]
    exact wp_sw (ml_copyText hM hb hc hk12 hp hn hpn hn40 t2 l2 b2 hne q m (j + 1) (by omega))
theorem mc_copyText {T σ : z_St} {A : w_A} (hM : w_M T σ A) {c k p n y s2 : Nat} (hb : gI σ 8 67 0 = Int32.ofNat (600 * c)) (hc : c ≤ 8) (hk12 : k < 12) (hp : gI σ 66060688 0 k = Int32.ofNat p) (hn : gI σ 67109264 0 k = Int32.ofNat n) (hpn : p + n ≤ 600) (hn40 : n ≤ 40) (hIB : ∀ k, nb (vI A 64 k) = vI A 64 k) (t2 : aTy s2 = 17) (l2 : y + 41 ≤ aLen s2) (b2 : aLen s2 ≤ 2147483648) (hne : ¬ s2 = 8 ∧ ¬ s2 = 31630097 ∧ ¬ s2 = 66060688 ∧ ¬ s2 = 67109264) {d : Nat} {x1 x3 : Int32} (h1 : x1 = Int32.ofNat k) (h3 : x3 = Int32.ofNat y) {Q : z_St → Option z_V → Prop} (q : ∀ f : Nat → Int32, f y = Int32.ofNat n → (∀ j, (e : j < (fn_text (vI A 64) c p n).length) → f (y + 1 + j) = (fn_text (vI A 64) c p n)[j]) → (∀ i, ¬ (y ≤ i ∧ i < y + 41) → f i = gI σ s2 0 i) → Q (rI σ s2 0 f) none) : wp (zD (d + 1) 138 [.inr (.inr (some (8, 0))), .inl x1, .inr (.inr (some (s2, 0))), .inl x3] σ) Q := by
  subst h1 h3
  have hk31 : k < 2147483648 := by omega
  have hnn : ∀ n, n ≤ 40 → nb (nb (Int32.ofNat n)) = Int32.ofNat n := by decide
  refine wp_eq (c138 ..) (wp_eq (e138_0 ..) (wp_ar (k := k) (rm_p78 hM) aty_67109264 alen_67109264 rfl (by omega) (by decide) ?_))
  refine wp_dr rfl (wp_gd t2 (wp_gd (zin_io (show y < aLen s2 by omega) b2) ?_))
  simp only [io_nat hk31, hn, nb_un]
  rw [io_nat (by omega)]
  have e0 : wI σ s2 0 y (nb (nb (Int32.ofNat n))) = rI σ s2 0 (fn_cp (gI σ 31630097 0) (600 * c + p) (y + 1) (va_up (gI σ s2 0) y (nb (nb (Int32.ofNat n)))) 0) := by
    rw [cp_0, ← wI_rI, rI_id]
  refine wp_sw ?_
  show wp (E xP138 (zD d) 1 _ [] (wI σ s2 0 y (nb (nb (Int32.ofNat n))))) Q
  rw [e0]
  refine ml_copyText hM hb hc hk12 hp hn hpn hn40 t2 l2 b2 hne (q _ ?_ (fun j e => ?_) (fun i hi => ?_)) n 0 (by omega)
  · unfold fn_cp va_up
    rw [if_neg (by omega), if_pos rfl, hnn n hn40]
  · rw [text_len] at e
    unfold fn_cp
    rw [if_pos (by omega), text_get (by rw [text_len]; exact e), show 600 * c + p + (y + 1 + j - (y + 1)) = 600 * c + (p + j) by omega, rm_I hM _ (by omega), hIB]
  · unfold fn_cp va_up
    rw [if_neg (by omega), if_neg (by omega)]
theorem mc_free {T σ : z_St} {A : w_A} (hM : w_M T σ A) {a : Nat} (ha : a < 16) {d : Nat} {x : Int32} (hx : x = Int32.ofNat a) {Q : z_St → Option z_V → Prop} (k : Q σ (some (.inr (.inl (fn_free A a))))) : wp (zD (d + 1) 141 [.inr (.inr (some (8, 0))), .inl x] σ) Q := by
  subst hx
  have ha31 : a < 2147483648 := by omega
  refine wp_eq (c141 ..) (wp_eq (e141_0 ..) (wp_ar (rm_p37 hM) aty_37749267 alen_37749267 rfl (by omega) (by decide) (wp_ar (rm_p38 hM) aty_38797843 alen_38797843 rfl (by omega) (by decide) ?_)))
  dsimp only
  rw [io_nat ha31, rm_ABAL hM, rm_ARES hM]
  exact wp_ret k
theorem mc_units {T σ : z_St} {A : w_A} (hM : w_M T σ A) {c : Nat} (hb : gI σ 8 67 0 = Int32.ofNat (600 * c)) (hc : c ≤ 8) {o : Option (Nat × Nat)} {x : Int32} (hx : m_in x o) (ho : ∀ q, o = some q → 0 < q.1 ∧ q.1 + 8 ≤ 600) {d : Nat} {y : Int64} {Q : z_St → Option z_V → Prop} (k : Q σ (some (.inr (.inl (o.elim y fun q => n8 (vI A 64) c q.1))))) : wp (zD (d + 4) 142 [.inr (.inr (some (8, 0))), .inl x, .inr (.inl y)] σ) Q := by
  cases o with
  | none =>
    have hx : x = 0 := hx
    exact wp_eq (c142 ..) (wp_eq (e142_0 ..) (wp_if (fun _ => wp_eq (e142_1 ..) (wp_eq (e142_3 ..) (wp_ret k))) (fun q => absurd hx q)))
  | some q =>
    have hx : x = Int32.ofNat q.1 := hx
    obtain ⟨h1, h2⟩ := ho q rfl
    refine wp_eq (c142 ..) (wp_eq (e142_0 ..) (wp_if (fun h => ?_) (fun _ => ?_)))
    · rw [hx, io_eq_l (by omega) (by decide)] at h
      have h : q.1 = 0 := h
      omega
    · exact wp_eq (e142_2 ..) (wp_cr (mw_n8 (d := d) (k := q.1) hM hb hc h2 hx ⟨_, rfl, wp_eq (e142_3 ..) (wp_ret k)⟩))
/-- the number that a found one holds -/
theorem mm_num {T σ : z_St} {A : w_A} (hM : w_M T σ A) {P : w_P} (hP : vP A = some P) (hr : z_rP (vI A 64) P) {i : Nat} {code : Int32} (hi : i < 9) (hcode : z_keys.getD i 0 = code) (hk : fn_kind code = 2) (hs : (fn_find (pN P) code).isSome = true) : ∃ a, gI σ 66060688 0 i = Int32.ofNat a ∧ a + 4 ≤ 600 ∧ fn_n (vI A 64) P code = un4 (vI A 64) (pC P) a := by
  obtain ⟨q, hq⟩ := some_of hs
  have := (mm_key (rm_msg hM hP) hi).2 q (by rw [hcode]; exact hq)
  refine ⟨q.2.1, this.1, rP_num hr hk q hq, ?_⟩
  unfold fn_n
  rw [hq]
theorem mc_count {T σ : z_St} {A : w_A} (hM : w_M T σ A) {P : w_P} (hP : vP A = some P) (hr : z_rP (vI A 64) P) (hs : (fn_find (pN P) 415).isSome = true) {d : Nat} {Q : z_St → Option z_V → Prop} (k : Q σ (some (.inr (.inl (fn_n (vI A 64) P 415))))) : wp (zD (d + 3) 143 [.inr (.inr (some (8, 0)))] σ) Q := by
  obtain ⟨hc1, hc8⟩ := rP_C hr
  obtain ⟨a, g1, g2, g3⟩ := mm_num hM hP hr (i := 6) (code := 415) (by decide) rfl (by decide) hs
  rw [g3] at k
  refine wp_eq (c143 ..) (wp_eq (e143_0 ..) (wp_ar (k := 6) (rm_p77 hM) aty_66060688 alen_66060688 rfl (by decide) (by decide) ?_))
  dsimp only
  rw [show (6 : Int32).toNatClampNeg = 6 from by decide, g1]
  exact wp_cr (mw_n4 (d := d) (k := a) hM (rm_msg hM hP).1 hc8 g2 rfl ⟨_, rfl, wp_asI0 (wp_ret k)⟩)
theorem ml_acct {T σ : z_St} {A : w_A} (hM : w_M T σ A) (h8 : vN A 1 0 ≤ 16) {v : Int64} {d : Nat} {Q : z_St → Option z_V → Prop} (k : Q σ (some (.inl (fn_ix (fn_acct A v))))) : ∀ (m j : Nat), j + m = vN A 1 0 → fn_acct A v = fn_from (fun a => decide (vJ A 0 a = v)) m j → wp (E xP135 (zD d) 1 [some (.inr (.inr (some (8, 0)))), some (.inr (.inl v)), none, some (.inl (Int32.ofNat j))] [] σ) Q
  | 0, j, hj, hf => by
    rw [hf] at k
    refine wp_eq (e135_1 ..) (wp_if (fun h => ?_) (fun h => ?_)) <;> rw [rm_ACCS hM, io_le (by omega) (by omega)] at h
    · exact wp_eq (e135_5 ..) (wp_ret k)
    · omega
  | m + 1, j, hj, hf => by
    have hj31 : j < 2147483648 := by omega
    refine wp_eq (e135_1 ..) (wp_if (fun h => ?_) (fun h => ?_)) <;> rw [rm_ACCS hM, io_le (by omega) (by omega)] at h
    · omega
    refine wp_eq (e135_2 ..) (wp_ar (rm_p36 hM) aty_36700691 alen_36700691 rfl (by omega) (by decide) ?_)
    dsimp only
    rw [io_nat hj31, rm_ANUM hM]
    refine wp_if (fun h => ?_) (fun h => ?_) <;> rw [lg_eq] at h
    · rw [from_y (decide_eq_true h)] at hf
      rw [hf] at k
      exact wp_eq (e135_3 ..) (wp_ret k)
    · rw [from_n (by simpa using h)] at hf
      refine wp_eq (e135_4 ..) ?_
      rw [io_add_l]
      exact ml_acct hM h8 k m (j + 1) (by omega) hf
theorem mc_acct {T σ : z_St} {A : w_A} (hM : w_M T σ A) (h8 : vN A 1 0 ≤ 16) {v : Int64} {d : Nat} {Q : z_St → Option z_V → Prop} (k : Q σ (some (.inl (fn_ix (fn_acct A v))))) : wp (zD (d + 1) 135 [.inr (.inr (some (8, 0))), .inr (.inl v)] σ) Q :=
  wp_eq (c135 ..) (wp_eq (e135_0 ..) (ml_acct hM h8 k (vN A 1 0) 0 (by omega) (fn_first_from _ _)))
theorem first_mem {n : Nat} {f : Nat → Bool} {k : Nat} (h : fn_first n f = some k) : k < n := (fn_first_some h).1
theorem i8_of {r : Int32} (h : nb r = r) : ∃ k, k < 256 ∧ r = (Int8.ofNat k).toInt32 := by
  refine ⟨r.toInt8.toBitVec.toNat, r.toInt8.toBitVec.isLt, ?_⟩
  have e : Int8.ofNat r.toInt8.toBitVec.toNat = r.toInt8 := by
    apply Int8.toBitVec_inj.mp
    show BitVec.ofNat 8 _ = _
    rw [BitVec.ofNat_toNat, BitVec.setWidth_eq]
  rw [e]
  exact h.symm
set_option maxRecDepth 20000 in
theorem dig_all : ∀ k, k < 256 → ((0 ≤ ((Int8.ofNat k).toInt32 &&& 255) - 48 ∧ ((Int8.ofNat k).toInt32 &&& 255) - 48 ≤ 9) ↔ ¬ ((Int8.ofNat k).toInt32 < 48 ∨ 57 < (Int8.ofNat k).toInt32)) ∧ (¬ ((Int8.ofNat k).toInt32 < 48 ∨ 57 < (Int8.ofNat k).toInt32) → (((Int8.ofNat k).toInt32 &&& 255) - 48).toInt64 = (Int8.ofNat k).toInt32.toInt64 - 48) := by decide
theorem dig_key {r : Int32} (h : nb r = r) : (0 ≤ (r &&& 255) - 48 ∧ (r &&& 255) - 48 ≤ 9) ↔ ¬ (r < 48 ∨ 57 < r) := by
  obtain ⟨k, hk, rfl⟩ := i8_of h
  exact (dig_all k hk).1
theorem dig_val {r : Int32} (h : nb r = r) (h0 : ¬ (r < 48 ∨ 57 < r)) (v : Int64) : 10 * v + ((r &&& 255) - 48).toInt64 = 10 * v + r.toInt64 - 48 := by
  obtain ⟨k, hk, rfl⟩ := i8_of h
  rw [(dig_all k hk).2 h0, Int64.sub_eq_add_neg, Int64.sub_eq_add_neg, Int64.add_assoc]
/-- digits: what the twin reads -/
theorem ml_sub {T σ : z_St} {A : w_A} (hM : w_M T σ A) {P : w_P} (hP : vP A = some P) {c a n : Nat} (hPc : pC P = c) (hc : c ≤ 8) (hIB : ∀ k, nb (vI A 64 k) = vI A 64 k) (hn17 : n ≤ 17) (han : a + n ≤ 600) (hat : gI σ 8 81 0 = Int32.ofNat a) (hsz : gI σ 8 82 0 = Int32.ofNat n) (h16 : vN A 1 0 ≤ 16) {d : Nat} {Q : z_St → Option z_V → Prop} : ∀ (m j : Nat) (v : Int64), j + m = n → Q σ (some (.inl (fn_ix ((fn_dig (vI A 64) c m (a + j) v).bind (fn_acct A))))) →
    wp (E xP136 (zD (d + 1)) 4 [some (.inr (.inr (some (8, 0)))), some (.inr (.inl v)), none, some (.inl (Int32.ofNat j)), none] [] σ) Q
  | 0, j, v, hj, k => by
    refine wp_eq (e136_4 ..) (wp_if (fun _ => ?_) (fun g => ?_))
    · exact wp_eq (e136_8 ..) (wp_cr (mc_acct (d := d) hM h16 ⟨_, rfl, wp_asI0 (wp_ret k)⟩))
    · rw [hsz, io_le (by omega) (by omega)] at g
      omega
  | m + 1, j, v, hj, k => by
    refine wp_eq (e136_4 ..) (wp_if (fun g => ?_) (fun g => ?_)) <;> rw [hsz, io_le (by omega) (by omega)] at g
    · omega
    have hm := rm_msg hM hP
    refine wp_eq (e136_5 ..) ?_
    rw [hat, io_add]
    refine wp_cr (mw_oct (d := d) (c := c) (k := a + j) hM (by rw [← hPc]; exact hm.1) hc (by omega) rfl ⟨_, rfl, wp_asI0 ?_⟩)
    obtain ⟨r, hr⟩ : ∃ r, r = vI A 64 (600 * c + (a + j)) := ⟨_, rfl⟩
    have hu : u8 (vI A 64) c (a + j) = r &&& 255 := by rw [hr]; rfl
    have hrb : nb r = r := by rw [hr]; exact hIB _
    unfold fn_dig at k
    rw [← hr] at k
    rw [hu]
    have key := dig_key hrb
    refine wp_cr ?_
    by_cases h0 : r < 48 ∨ 57 < r
    · rw [if_pos h0] at k
      refine mc_in (d := d) fun w hw => ⟨_, hw, wp_asI0 ?_⟩
      rw [b2i_f (fun q => (key.mp q) h0)]
      exact wp_if (fun _ => wp_eq (e136_6 ..) (wp_ret k)) (fun q => absurd rfl q)
    · rw [if_neg h0] at k
      refine mc_in (d := d) fun w hw => ⟨_, hw, wp_asI0 ?_⟩
      rw [b2i_t (key.mpr h0)]
      refine wp_if (fun q => absurd q (by decide)) (fun _ => ?_)
      refine wp_eq (e136_7 ..) ?_
      rw [io_add_l, dig_val hrb h0]
      exact ml_sub hM hP hPc hc hIB hn17 han hat hsz h16 m (j + 1) _ (by omega) k
theorem mc_sub {T σ : z_St} {A : w_A} (hM : w_M T σ A) {P : w_P} (hP : vP A = some P) (hr : z_rP (vI A 64) P) (hw : pW P = 0) (hIB : ∀ k, nb (vI A 64 k) = vI A 64 k) (h16 : vN A 1 0 ≤ 16) {d : Nat} {Q : z_St → Option z_V → Prop} (k : Q σ (some (.inl (fn_ix (fn_sub A P))))) : wp (zD (d + 2) 136 [.inr (.inr (some (8, 0)))] σ) Q := by
  obtain ⟨hc1, hc8⟩ := rP_C hr
  have hm := rm_msg hM hP
  obtain ⟨-, g1, g2, -, -⟩ := hm.2.2.2.2.2.2.2.2.2 hw
  unfold fn_sub at k
  cases ho : fn_inside (vI A 64) P 443 444 with
  | none =>
    rw [ho] at k g1
    have g1 : gI σ 8 81 0 = 0 := g1
    exact wp_eq (c136 ..) (wp_eq (e136_0 ..) (wp_if (fun _ => wp_eq (e136_2 ..) (wp_ret k)) (fun q => absurd g1 q)))
  | some q =>
    rw [ho] at k g1
    have g2 := g2 q ho
    obtain ⟨a, n⟩ := q
    have g1 : gI σ 8 81 0 = Int32.ofNat a := g1
    have g2 : gI σ 8 82 0 = Int32.ofNat n := g2
    have hb := rP_ins hr (grp := 443) (code := 444) (by decide) (by decide) ho
    dsimp only at k
    refine wp_eq (c136 ..) (wp_eq (e136_0 ..) (wp_if (fun h => ?_) (fun _ => ?_)))
    · rw [g1, io_eq_l (by omega) (by decide)] at h
      have h : a = 0 := h
      omega
    refine wp_eq (e136_1 ..) (wp_if (fun h => ?_) (fun h => ?_)) <;> rw [g2, io_le_l (by omega) (by decide)] at h
    · have h : n ≤ 17 := h
      rw [if_neg (by omega)] at k
      exact wp_eq (e136_3 ..) (ml_sub (d := d) hM hP rfl hc8 hIB h hb.2.1 g1 g2 h16 n 0 0 (by omega) k)
    · have h : ¬ n ≤ 17 := h
      rw [if_pos (by omega)] at k
      exact wp_eq (e136_2 ..) (wp_ret k)
/-- the session that a message names -/
theorem ml_sess {T σ : z_St} {A : w_A} (hM : w_M T σ A) {P : w_P} (hP : vP A = some P) (hr : z_rP (vI A 64) P) {y : w_Q} (hy : fn_find (pN P) 263 = some y) (hSN : z_SN A) (h16 : vN A 2 0 ≤ 16) {d : Nat} {Q : z_St → Option z_V → Prop} (k : Q σ (some (.inl (fn_ix (fn_sess A P))))) : ∀ (m j : Nat), j + m = vN A 2 0 → fn_sess A P = fn_from (fun s => fn_isT (vI A 64) P 263 (vL A 4 s)) m j → wp (E xP137 (zD (d + 1)) 1 [some (.inr (.inr (some (8, 0)))), some (.inl (Int32.ofNat j))] [] σ) Q
  | 0, j, hj, hf => by
    rw [hf] at k
    refine wp_eq (e137_1 ..) (wp_if (fun h => ?_) (fun h => ?_)) <;> rw [rm_SESS hM, io_le (by omega) (by omega)] at h
    · exact wp_eq (e137_5 ..) (wp_ret k)
    · omega
  | m + 1, j, hj, hf => by
    obtain ⟨hc1, hc8⟩ := rP_C hr
    have hj31 : 41 * j < 2147483648 := by omega
    obtain ⟨-, -, -, -, -, g1, -, -⟩ := (rm_J hM).2 j (by omega)
    have hn := (hSN j (by omega)).1.1
    have hk := (mm_key (rm_msg hM hP) (k := 0) (by decide)).2 y hy
    have hq := rP_txt hr (by decide) y hy
    refine wp_eq (e137_1 ..) (wp_if (fun h => ?_) (fun h => ?_)) <;> rw [rm_SESS hM, io_le (by omega) (by omega)] at h
    · omega
    refine wp_eq (e137_2 ..) (wp_ar (k := 41 * j) (rm_p41 hM) aty_40915473 alen_40915473 (io_mul 41 j) (by omega) (by decide) ?_)
    dsimp only
    rw [show (41 : Int32) * Int32.ofNat j = Int32.ofNat (41 * j) from io_mul 41 j, io_nat hj31, g1.1, rm_p41 hM, io_add_l]
    refine wp_cr (mw_isText (d := d) (c := pC P) (k := 0) (f := 41 * j + 1) (l := vL A 4 j) hM (rm_msg hM hP).1 hc8 (by decide) hk.1 hk.2 hq.1 aty_40915473 hn (by rw [alen_40915473]; omega) (by rw [alen_40915473]; decide) g1.2 rfl rfl rfl ⟨_, rfl, wp_asI0 ?_⟩)
    have hT := isT_some (r := vI A 64) (l := vL A 4 j) hy
    refine wp_if (fun q => ?_) (fun q => ?_) <;> rw [b2i_0] at q
    · rw [from_n (by rw [hT]; simpa using q)] at hf
      refine wp_eq (e137_4 ..) ?_
      rw [io_add_l]
      exact ml_sess hM hP hr hy hSN h16 k m (j + 1) (by omega) hf
    · rw [from_y (by rw [hT]; exact decide_eq_true (Classical.not_not.mp q))] at hf
      rw [hf] at k
      exact wp_eq (e137_3 ..) (wp_ret k)
theorem mc_sess {T σ : z_St} {A : w_A} (hM : w_M T σ A) {P : w_P} (hP : vP A = some P) (hr : z_rP (vI A 64) P) (hs : (fn_find (pN P) 263).isSome = true) (hSN : z_SN A) (h16 : vN A 2 0 ≤ 16) {d : Nat} {Q : z_St → Option z_V → Prop} (k : Q σ (some (.inl (fn_ix (fn_sess A P))))) : wp (zD (d + 2) 137 [.inr (.inr (some (8, 0)))] σ) Q := by
  obtain ⟨y, hy⟩ := some_of hs
  exact wp_eq (c137 ..) (wp_eq (e137_0 ..) (ml_sess hM hP hr hy hSN h16 k (vN A 2 0) 0 (by omega) (fn_first_from _ _)))
