/-! PART 87e (src 87e.mlook.src): the twin reads a message -/
set_option maxHeartbeats 800000
def z_ms (cmd : Int32) : List Nat := if cmd = 257 then [1, 2, 3] else if cmd = 280 then [1, 2] else if cmd = 282 then [1, 2, 4] else [0, 1, 2, 5, 6]
def z_ky (n : Nat) : Int32 := z_keys.getD n 0
theorem ms_ws (cmd : Int32) : (z_ms cmd).map z_ky = fn_wants true cmd := by
  unfold z_ms fn_wants
  rw [if_pos rfl]
  split
  · rfl
  split
  · rfl
  split <;> rfl
theorem ms_lt (cmd : Int32) : ∀ i (h : i < (z_ms cmd).length), (z_ms cmd)[i] < 7 := by
  have h : ∀ x ∈ z_ms cmd, x < 7 := by
    unfold z_ms
    split
    · decide
    split
    · decide
    split <;> decide
  exact fun i hi => h _ (List.getElem_mem hi)
theorem ms_len (cmd : Int32) : (z_ms cmd).length ≤ 5 := by
  unfold z_ms
  split
  · decide
  split
  · decide
  split <;> decide
def z_mu (cmd : Int32) (i : Nat) : Int32 := match (z_ms cmd)[i]? with
  | some n => Int32.ofNat n
  | none => -1
theorem mw_must {d i : Nat} {σ : z_St} {x cmd : Int32} (hx : x = Int32.ofNat i) (hi : i < 5) (hcmd : gI σ 8 70 0 = cmd) {Q : z_St → Option z_V → Prop} (k : Q σ (some (.inl (z_mu cmd i)))) : wp (zD (d + 1) 116 [.inr (.inr (some (8, 0))), .inl x] σ) Q := by
  subst hx
  unfold z_mu z_ms at k
  refine wp_eq (c116 ..) (wp_eq (e116_0 ..) ?_)
  rw [hcmd]
  refine wp_if (fun h1 => ?_) (fun h1 => ?_)
  · rw [if_pos h1] at k
    refine wp_eq (e116_1 ..) (wp_if (fun h => ?_) (fun h => ?_)) <;> rw [io_eq_l (by omega) (by decide)] at h
    · have h : i = 0 := h
      subst h
      exact wp_eq (e116_2 ..) (wp_eq (e116_8 ..) (wp_ret k))
    have h0 : ¬ i = 0 := h
    refine wp_eq (e116_3 ..) (wp_if (fun h => ?_) (fun h => ?_)) <;> rw [io_eq_l (by omega) (by decide)] at h
    · have h : i = 1 := h
      subst h
      exact wp_eq (e116_4 ..) (wp_eq (e116_8 ..) (wp_ret k))
    have h1 : ¬ i = 1 := h
    refine wp_eq (e116_5 ..) (wp_if (fun h => ?_) (fun h => ?_)) <;> rw [io_eq_l (by omega) (by decide)] at h
    · have h : i = 2 := h
      subst h
      exact wp_eq (e116_6 ..) (wp_eq (e116_8 ..) (wp_ret k))
    have h2 : ¬ i = 2 := h
    rw [List.getElem?_eq_none (by show 3 ≤ i; omega)] at k
    exact wp_eq (e116_7 ..) (wp_eq (e116_8 ..) (wp_ret k))
  rw [if_neg h1] at k
  refine wp_if (fun h2 => ?_) (fun h2 => ?_)
  · rw [if_pos h2] at k
    refine wp_eq (e116_9 ..) (wp_if (fun h => ?_) (fun h => ?_)) <;> rw [io_eq_l (by omega) (by decide)] at h
    · have h : i = 0 := h
      subst h
      exact wp_eq (e116_10 ..) (wp_eq (e116_14 ..) (wp_ret k))
    have h0 : ¬ i = 0 := h
    refine wp_eq (e116_11 ..) (wp_if (fun h => ?_) (fun h => ?_)) <;> rw [io_eq_l (by omega) (by decide)] at h
    · have h : i = 1 := h
      subst h
      exact wp_eq (e116_12 ..) (wp_eq (e116_14 ..) (wp_ret k))
    have h1 : ¬ i = 1 := h
    rw [List.getElem?_eq_none (by show 2 ≤ i; omega)] at k
    exact wp_eq (e116_13 ..) (wp_eq (e116_14 ..) (wp_ret k))
  rw [if_neg h2] at k
  refine wp_if (fun h3 => ?_) (fun h3 => ?_)
  · rw [if_pos h3] at k
    refine wp_eq (e116_15 ..) (wp_if (fun h => ?_) (fun h => ?_)) <;> rw [io_eq_l (by omega) (by decide)] at h
    · have h : i = 0 := h
      subst h
      exact wp_eq (e116_16 ..) (wp_eq (e116_22 ..) (wp_ret k))
    have h0 : ¬ i = 0 := h
    refine wp_eq (e116_17 ..) (wp_if (fun h => ?_) (fun h => ?_)) <;> rw [io_eq_l (by omega) (by decide)] at h
    · have h : i = 1 := h
      subst h
      exact wp_eq (e116_18 ..) (wp_eq (e116_22 ..) (wp_ret k))
    have h1 : ¬ i = 1 := h
    refine wp_eq (e116_19 ..) (wp_if (fun h => ?_) (fun h => ?_)) <;> rw [io_eq_l (by omega) (by decide)] at h
    · have h : i = 2 := h
      subst h
      exact wp_eq (e116_20 ..) (wp_eq (e116_22 ..) (wp_ret k))
    have h2 : ¬ i = 2 := h
    rw [List.getElem?_eq_none (by show 3 ≤ i; omega)] at k
    exact wp_eq (e116_21 ..) (wp_eq (e116_22 ..) (wp_ret k))
  rw [if_neg h3] at k
  refine wp_eq (e116_23 ..) (wp_if (fun h => ?_) (fun h => ?_)) <;> rw [io_eq_l (by omega) (by decide)] at h
  · have h : i = 0 := h
    subst h
    exact wp_eq (e116_24 ..) (wp_eq (e116_34 ..) (wp_ret k))
  have h0 : ¬ i = 0 := h
  refine wp_eq (e116_25 ..) (wp_if (fun h => ?_) (fun h => ?_)) <;> rw [io_eq_l (by omega) (by decide)] at h
  · have h : i = 1 := h
    subst h
    exact wp_eq (e116_26 ..) (wp_eq (e116_34 ..) (wp_ret k))
  have h1 : ¬ i = 1 := h
  refine wp_eq (e116_27 ..) (wp_if (fun h => ?_) (fun h => ?_)) <;> rw [io_eq_l (by omega) (by decide)] at h
  · have h : i = 2 := h
    subst h
    exact wp_eq (e116_28 ..) (wp_eq (e116_34 ..) (wp_ret k))
  have h2 : ¬ i = 2 := h
  refine wp_eq (e116_29 ..) (wp_if (fun h => ?_) (fun h => ?_)) <;> rw [io_eq_l (by omega) (by decide)] at h
  · have h : i = 3 := h
    subst h
    exact wp_eq (e116_30 ..) (wp_eq (e116_34 ..) (wp_ret k))
  have h3 : ¬ i = 3 := h
  have : i = 4 := by omega
  subst this
  exact wp_eq (e116_31 ..) (wp_if (fun _ => wp_eq (e116_32 ..) (wp_eq (e116_34 ..) (wp_ret k))) (fun q => absurd rfl q))
theorem mu_cases (cmd : Int32) (i : Nat) : (∃ n, n < 7 ∧ z_mu cmd i = Int32.ofNat n ∧ (z_ms cmd).drop i = n :: (z_ms cmd).drop (i + 1)) ∨ (z_mu cmd i = -1 ∧ (z_ms cmd).drop i = []) := by
  by_cases h : i < (z_ms cmd).length
  · left
    refine ⟨(z_ms cmd)[i], ms_lt cmd i h, ?_, List.drop_eq_getElem_cons h⟩
    unfold z_mu
    rw [List.getElem?_eq_getElem h]
  · right
    refine ⟨?_, List.drop_eq_nil_of_le (by omega)⟩
    unfold z_mu
    rw [List.getElem?_eq_none (by omega)]
theorem lack_true (l : List w_Q) (ws : List Int32) : fn_lack l true ws = match ws.find? fun w => (fn_find l w).isNone with
  | some w => (5005, w)
  | none => match ws.find? fun w => decide (w ≠ 258 ∧ 1 < fn_many l w) with
      | some w => (5009, w)
      | none => (0, 0) := rfl
theorem lk15 {d : Nat} {Q : z_St → Option z_V → Prop} {σ : z_St} {w : Int32} (hw : gI σ 8 74 0 = w) (h0 : ¬ w = 0) (q : Q σ none) {i : Nat} (hi : i ≤ 5) : wp (E xP118 (zD (d + 1)) 8 [some (.inr (.inr (some (8, 0)))), some (.inl (Int32.ofNat i))] [] σ) Q := by
  refine wp_eq (e118_8 ..) (wp_if (fun _ => wp_eq (e118_15 ..) (wp_ret q)) (fun _ => ?_))
  exact wp_eq (e118_9 ..) (wp_if (fun h => absurd (hw.symm.trans h) h0) (fun _ => wp_eq (e118_15 ..) (wp_ret q)))
theorem lk7 {d : Nat} {Q : z_St → Option z_V → Prop} {σ : z_St} {w : Int32} (hw : gI σ 8 74 0 = w) (h0 : ¬ w = 0) (q : Q σ none) {i : Nat} (hi : i ≤ 5) : wp (E xP118 (zD (d + 1)) 1 [some (.inr (.inr (some (8, 0)))), some (.inl (Int32.ofNat i))] [] σ) Q := by
  have k7 : wp (E xP118 (zD (d + 1)) 7 [some (.inr (.inr (some (8, 0)))), none] [] σ) Q := wp_eq (e118_7 ..) (lk15 hw h0 q (i := 0) (by decide))
  refine wp_eq (e118_1 ..) (wp_if (fun _ => k7) (fun _ => ?_))
  exact wp_eq (e118_2 ..) (wp_if (fun h => absurd (hw.symm.trans h) h0) (fun _ => k7))
theorem ml_l2 {T σ : z_St} {A : w_A} (hM : w_M T σ A) (hP : vP A = none) {c : Nat} {S : w_S} (hs : z_tw (vI A 64) σ c S) (hl : S.1.length ≤ 200) {cmd : Int32} (hcmd : gI σ 8 70 0 = cmd) {d : Nat} {Q : z_St → Option z_V → Prop} (hw : gI σ 8 74 0 = 0) (k0 : ((z_ms cmd).map z_ky).find? (fun w => decide (w ≠ 258 ∧ 1 < fn_many S.1 w)) = none → Q σ none) (k1 : ∀ w, ((z_ms cmd).map z_ky).find? (fun w => decide (w ≠ 258 ∧ 1 < fn_many S.1 w)) = some w → w_M T (wI (wI σ 8 74 0 5009) 8 75 0 w) A → Q (wI (wI σ 8 74 0 5009) 8 75 0 w) none) : ∀ (m i : Nat), i + m = 5 → (((z_ms cmd).drop i).map z_ky).find? (fun w => decide (w ≠ 258 ∧ 1 < fn_many S.1 w)) = ((z_ms cmd).map z_ky).find? (fun w => decide (w ≠ 258 ∧ 1 < fn_many S.1 w)) →
    wp (E xP118 (zD (d + 1)) 8 [some (.inr (.inr (some (8, 0)))), some (.inl (Int32.ofNat i))] [] σ) Q
  | 0, i, hi, hf => by
    have : i = 5 := by omega
    subst this
    rw [List.drop_eq_nil_of_le (ms_len cmd)] at hf
    refine wp_eq (e118_8 ..) (wp_if (fun _ => wp_eq (e118_15 ..) (wp_ret (k0 hf.symm))) (fun h => absurd (by decide) h))
  | m + 1, i, hi, hf => by
    refine wp_eq (e118_8 ..) (wp_if (fun h => ?_) (fun h => ?_)) <;> rw [io_lle (by omega) (by decide)] at h
    · omega
    refine wp_eq (e118_9 ..) (wp_if (fun _ => ?_) (fun q => absurd hw q))
    rcases mu_cases cmd i with ⟨n, hn, hmu, hd⟩ | ⟨hmu, hd⟩
    rotate_left
    · rw [hd] at hf
      refine wp_eq (e118_10 ..) (wp_cr (mw_must (d := d) rfl (by omega) hcmd ⟨_, rfl, wp_asI0 ?_⟩))
      rw [hmu]
      exact wp_if (fun _ => wp_eq (e118_15 ..) (wp_ret (k0 hf.symm))) (fun q => absurd (by decide) q)
    have hk := (hs.1 n (by omega)).1
    have hml := many_le S.1 (z_keys.getD n 0)
    refine wp_eq (e118_10 ..) (wp_cr (mw_must (d := d) rfl (by omega) hcmd ⟨_, rfl, wp_asI0 ?_⟩))
    rw [hmu]
    refine wp_if (fun q => absurd q (io_neg (by omega))) (fun _ => ?_)
    refine wp_eq (e118_11 ..) (wp_cr (mw_must (d := d) rfl (by omega) hcmd ⟨_, rfl, wp_asI0 ?_⟩))
    rw [hmu]
    refine (wp_ar (k := n) (rm_p79 hM) aty_68157840 alen_68157840 rfl (by omega) (by decide) ?_)
    dsimp only
    rw [io_nat (by omega), hk]
    rw [hd, List.map_cons, List.find?_cons] at hf
    have next : ∀ (hf2 : (((z_ms cmd).drop (i + 1)).map z_ky).find? (fun w => decide (w ≠ 258 ∧ 1 < fn_many S.1 w)) = ((z_ms cmd).map z_ky).find? (fun w => decide (w ≠ 258 ∧ 1 < fn_many S.1 w))), wp (E xP118 (zD (d + 1)) 14 [some (.inr (.inr (some (8, 0)))), some (.inl (Int32.ofNat i))] [] σ) Q := by
      intro hf2
      refine wp_eq (e118_14 ..) ?_
      rw [io_add_l]
      exact ml_l2 hM hP hs hl hcmd hw k0 k1 m (i + 1) (by omega) hf2
    refine wp_if (fun h => ?_) (fun h => ?_) <;> rw [io_le_l (by omega) (by decide)] at h
    · have h : fn_many S.1 (z_ky n) ≤ 1 := h
      rw [decide_eq_false (fun q => by have := q.2; omega)] at hf
      exact next hf
    have h : ¬ fn_many S.1 (z_ky n) ≤ 1 := h
    refine wp_eq (e118_12 ..) (wp_cr (mw_must (d := d) rfl (by omega) hcmd ⟨_, rfl, wp_asI0 ?_⟩))
    rw [hmu]
    refine wp_if (fun h3 => ?_) (fun h3 => ?_) <;> rw [io_eq_l (by omega) (by decide)] at h3
    · have h3 : n = 3 := h3
      subst h3
      rw [decide_eq_false (fun q => q.1 rfl)] at hf
      exact next hf
    have h3 : ¬ n = 3 := h3
    have hne : z_ky n ≠ 258 := by
      match n, hn, h3 with
      | 0, _, _ => decide
      | 1, _, _ => decide
      | 2, _, _ => decide
      | 4, _, _ => decide
      | 5, _, _ => decide
      | 6, _, _ => decide
    rw [decide_eq_true (show z_ky n ≠ 258 ∧ 1 < fn_many S.1 (z_ky n) from ⟨hne, by omega⟩)] at hf
    refine wp_eq (e118_13 ..) (wp_cr (mw_must (d := d) rfl (by omega) hcmd ⟨_, rfl, wp_asI0 ?_⟩))
    rw [hmu]
    refine (wp_ar (k := n) (rm_p76 hM) aty_65012112 alen_65012112 rfl (by omega) (by decide) ?_)
    dsimp only
    rw [io_nat (by omega), rm_keys hM n (by omega)]
    refine wp_cv (mw_fault (d := d) hM hP fun hM2 => ⟨rfl, wp_eq (e118_14 ..) ?_⟩)
    rw [io_add_l]
    exact lk15 (w := 5009) rfl (by decide) (k1 _ hf.symm hM2) (by omega)
theorem ml_l1 {T σ : z_St} {A : w_A} (hM : w_M T σ A) (hP : vP A = none) {c : Nat} {S : w_S} (hs : z_tw (vI A 64) σ c S) (hl : S.1.length ≤ 200) {cmd : Int32} (hcmd : gI σ 8 70 0 = cmd) {d : Nat} {Q : z_St → Option z_V → Prop} (hw : gI σ 8 74 0 = 0) (k0 : ((z_ms cmd).map z_ky).find? (fun w => (fn_find S.1 w).isNone) = none → wp (E xP118 (zD (d + 1)) 7 [some (.inr (.inr (some (8, 0)))), none] [] σ) Q) (k1 : ∀ w, ((z_ms cmd).map z_ky).find? (fun w => (fn_find S.1 w).isNone) = some w → w_M T (wI (wI σ 8 74 0 5005) 8 75 0 w) A → Q (wI (wI σ 8 74 0 5005) 8 75 0 w) none) : ∀ (m i : Nat), i + m = 5 → (((z_ms cmd).drop i).map z_ky).find? (fun w => (fn_find S.1 w).isNone) = ((z_ms cmd).map z_ky).find? (fun w => (fn_find S.1 w).isNone) →
    wp (E xP118 (zD (d + 1)) 1 [some (.inr (.inr (some (8, 0)))), some (.inl (Int32.ofNat i))] [] σ) Q
  | 0, i, hi, hf => by
    have : i = 5 := by omega
    subst this
    rw [List.drop_eq_nil_of_le (ms_len cmd)] at hf
    refine wp_eq (e118_1 ..) (wp_if (fun _ => k0 hf.symm) (fun h => absurd (by decide) h))
  | m + 1, i, hi, hf => by
    refine wp_eq (e118_1 ..) (wp_if (fun h => ?_) (fun h => ?_)) <;> rw [io_lle (by omega) (by decide)] at h
    · omega
    refine wp_eq (e118_2 ..) (wp_if (fun _ => ?_) (fun q => absurd hw q))
    rcases mu_cases cmd i with ⟨n, hn, hmu, hd⟩ | ⟨hmu, hd⟩
    rotate_left
    · rw [hd] at hf
      refine wp_eq (e118_3 ..) (wp_cr (mw_must (d := d) rfl (by omega) hcmd ⟨_, rfl, wp_asI0 ?_⟩))
      rw [hmu]
      exact wp_if (fun _ => k0 hf.symm) (fun q => absurd (by decide) q)
    have hk := (hs.1 n (by omega)).1
    have hml := many_le S.1 (z_keys.getD n 0)
    have hm0 := many_0 S.1 (z_keys.getD n 0)
    refine wp_eq (e118_3 ..) (wp_cr (mw_must (d := d) rfl (by omega) hcmd ⟨_, rfl, wp_asI0 ?_⟩))
    rw [hmu]
    refine wp_if (fun q => absurd q (io_neg (by omega))) (fun _ => ?_)
    refine wp_eq (e118_4 ..) (wp_cr (mw_must (d := d) rfl (by omega) hcmd ⟨_, rfl, wp_asI0 ?_⟩))
    rw [hmu]
    refine (wp_ar (k := n) (rm_p79 hM) aty_68157840 alen_68157840 rfl (by omega) (by decide) ?_)
    dsimp only
    rw [io_nat (by omega), hk]
    rw [hd, List.map_cons, List.find?_cons] at hf
    refine wp_if (fun h => ?_) (fun h => ?_) <;> rw [io_eq_l (by omega) (by decide)] at h
    · have hn0 : fn_find S.1 (z_ky n) = none := hm0.mp h
      rw [show (fn_find S.1 (z_ky n)).isNone = true by rw [hn0]; rfl] at hf
      refine wp_eq (e118_5 ..) (wp_cr (mw_must (d := d) rfl (by omega) hcmd ⟨_, rfl, wp_asI0 ?_⟩))
      rw [hmu]
      refine (wp_ar (k := n) (rm_p76 hM) aty_65012112 alen_65012112 rfl (by omega) (by decide) ?_)
      dsimp only
      rw [io_nat (by omega), rm_keys hM n (by omega)]
      refine wp_cv (mw_fault (d := d) hM hP fun hM2 => ⟨rfl, wp_eq (e118_6 ..) ?_⟩)
      rw [io_add_l]
      exact lk7 (w := 5005) rfl (by decide) (k1 _ hf.symm hM2) (by omega)
    · have hn0 : ¬ fn_find S.1 (z_ky n) = none := fun q => h (hm0.mpr q)
      rw [show (fn_find S.1 (z_ky n)).isNone = false by cases e : fn_find S.1 (z_ky n) with | none => exact absurd e hn0 | some _ => rfl] at hf
      refine wp_eq (e118_6 ..) ?_
      rw [io_add_l]
      exact ml_l1 hM hP hs hl hcmd hw k0 k1 m (i + 1) (by omega) hf
theorem mw_lacks {T σ : z_St} {A : w_A} (hM : w_M T σ A) (hP : vP A = none) {c : Nat} {S : w_S} (hs : z_tw (vI A 64) σ c S) (hl : S.1.length ≤ 200) {cmd : Int32} (hcmd : gI σ 8 70 0 = cmd) {d : Nat} {Q : z_St → Option z_V → Prop} (hw : gI σ 8 74 0 = 0) (k0 : fn_lack S.1 true (fn_wants true cmd) = (0, 0) → Q σ none) (k1 : ∀ w x, fn_lack S.1 true (fn_wants true cmd) = (w, x) → ¬ w = 0 → w_M T (wI (wI σ 8 74 0 w) 8 75 0 x) A → Q (wI (wI σ 8 74 0 w) 8 75 0 x) none) : wp (zD (d + 2) 118 [.inr (.inr (some (8, 0)))] σ) Q := by
  rw [lack_true, ← ms_ws] at k0 k1
  refine wp_eq (c118 ..) (wp_eq (e118_0 ..) (ml_l1 hM hP hs hl hcmd hw (fun h => ?_) (fun w h hM2 => ?_) 5 0 rfl rfl))
  · rw [h] at k0 k1
    refine wp_eq (e118_7 ..) (ml_l2 hM hP hs hl hcmd hw (fun h => ?_) (fun w h hM2 => ?_) 5 0 rfl rfl)
    · rw [h] at k0
      exact k0 rfl
    · rw [h] at k1
      exact k1 _ _ rfl (by decide) hM2
  · rw [h] at k1
    exact k1 _ _ rfl (by decide) hM2
theorem mw_lacksW {d : Nat} {σ : z_St} {Q : z_St → Option z_V → Prop} (hw : ¬ gI σ 8 74 0 = 0) (k : Q σ none) : wp (zD (d + 2) 118 [.inr (.inr (some (8, 0)))] σ) Q :=
  wp_eq (c118 ..) (wp_eq (e118_0 ..) (lk7 (i := 0) rfl hw k (by decide)))
