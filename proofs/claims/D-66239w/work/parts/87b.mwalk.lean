/-! PART 87b (src 87b.mwalk.src): the twin goes through a message's attributes -/
set_option maxHeartbeats 800000
/-- the row of a group that is looked into: 9 who, 10 wanted, 11 used, else -1 -/
def tgrp (d : Nat) (code : Int32) (l : List w_Q) : Int32 :=
  if 0 < d then -1 else if code = 443 then (if fn_many l 443 = 1 then 9 else -1) else if code = 437 then (if fn_many l 437 = 1 then 10 else -1) else if code = 446 then (if fn_many l 446 = 1 then 11 else -1) else -1
def fn_tw (r : Nat → Int32) (c : Nat) : Nat → Nat → Nat → Nat → Int32 → w_S → (Int32 × Int32) × w_S
  | 0, _, _, _, _, S => ((0, 0), S)
  | f + 1, k, e, d, G, S =>
    if e ≤ k then ((0, 0), S)
    else if e - k < 8 then ((5014, 0), S)
    else if nl r c k < fn_hs r c k ∨ e - k < nl r c k then ((5014, n4 r c k), S)
    else if u8 r c (k + 4) &&& 31 ≠ 0 then ((3009, n4 r c k), S)
    else if fn_kd r c k = 0 then
      (if u8 r c (k + 4) &&& 64 ≠ 0 then ((5001, n4 r c k), S) else fn_tw r c f (k + (nl r c k + 3) / 4 * 4) e d G S)
    else if ¬ fn_fits (fn_kd r c k) (nl r c k - 8) ∨ (fn_kd r c k = 5 ∧ d = 3) then ((5014, n4 r c k), S)
    else if fn_kd r c k = 5 then
      (if (fn_tw r c f (k + 8) (k + nl r c k) (d + 1) (tgrp d (n4 r c k) (tsee d G (n4 r c k, k + 8, nl r c k - 8) S).1) (tsee d G (n4 r c k, k + 8, nl r c k - 8) S)).1.1 ≠ 0
        then fn_tw r c f (k + 8) (k + nl r c k) (d + 1) (tgrp d (n4 r c k) (tsee d G (n4 r c k, k + 8, nl r c k - 8) S).1) (tsee d G (n4 r c k, k + 8, nl r c k - 8) S)
        else fn_tw r c f (k + (nl r c k + 3) / 4 * 4) e d G (fn_tw r c f (k + 8) (k + nl r c k) (d + 1) (tgrp d (n4 r c k) (tsee d G (n4 r c k, k + 8, nl r c k - 8) S).1) (tsee d G (n4 r c k, k + 8, nl r c k - 8) S)).2)
    else fn_tw r c f (k + (nl r c k + 3) / 4 * 4) e d G (tsee d G (n4 r c k, k + 8, nl r c k - 8) S)
theorem tw_s (r : Nat → Int32) (c f k e d : Nat) (G : Int32) (S : w_S) : fn_tw r c (f + 1) k e d G S =
    if e ≤ k then ((0, 0), S)
    else if e - k < 8 then ((5014, 0), S)
    else if nl r c k < fn_hs r c k ∨ e - k < nl r c k then ((5014, n4 r c k), S)
    else if u8 r c (k + 4) &&& 31 ≠ 0 then ((3009, n4 r c k), S)
    else if fn_kd r c k = 0 then
      (if u8 r c (k + 4) &&& 64 ≠ 0 then ((5001, n4 r c k), S) else fn_tw r c f (k + (nl r c k + 3) / 4 * 4) e d G S)
    else if ¬ fn_fits (fn_kd r c k) (nl r c k - 8) ∨ (fn_kd r c k = 5 ∧ d = 3) then ((5014, n4 r c k), S)
    else if fn_kd r c k = 5 then
      (if (fn_tw r c f (k + 8) (k + nl r c k) (d + 1) (tgrp d (n4 r c k) (tsee d G (n4 r c k, k + 8, nl r c k - 8) S).1) (tsee d G (n4 r c k, k + 8, nl r c k - 8) S)).1.1 ≠ 0
        then fn_tw r c f (k + 8) (k + nl r c k) (d + 1) (tgrp d (n4 r c k) (tsee d G (n4 r c k, k + 8, nl r c k - 8) S).1) (tsee d G (n4 r c k, k + 8, nl r c k - 8) S)
        else fn_tw r c f (k + (nl r c k + 3) / 4 * 4) e d G (fn_tw r c f (k + 8) (k + nl r c k) (d + 1) (tgrp d (n4 r c k) (tsee d G (n4 r c k, k + 8, nl r c k - 8) S).1) (tsee d G (n4 r c k, k + 8, nl r c k - 8) S)).2)
    else fn_tw r c f (k + (nl r c k + 3) / 4 * 4) e d G (tsee d G (n4 r c k, k + 8, nl r c k - 8) S) := rfl
theorem tsee_1 {d : Nat} (hd : 0 < d) (G : Int32) (q : w_Q) (S : w_S) : (tsee d G q S).1 = S.1 := by
  unfold tsee
  rw [if_neg (by omega)]
  split <;> rfl
theorem or_some {a b : Option (Nat × Nat)} {q : Nat × Nat} (h : z_or a b = some q) : a = some q ∨ b = some q := by
  cases a with
  | none => exact .inr h
  | some x => exact .inl h
theorem tsee_s0 {d : Nat} {G : Int32} {q : w_Q} {S : w_S} (h : z_s0 S) (hq : 0 < q.2.1 ∧ q.2.1 < 2000) : z_s0 (tsee d G q S) := by
  unfold tsee
  split
  · exact h
  split
  · intro y hy
    have key : ∀ (b : Prop) [Decidable b] (s : Option (Nat × Nat)), (s = some y → 0 < y.1 ∧ y.1 < 2000) → (if b then z_or s (some q.2) else s) = some y → 0 < y.1 ∧ y.1 < 2000 := by
      intro b _ s h1 h2
      split at h2
      · rcases or_some h2 with h2 | h2
        · exact h1 h2
        · cases h2
          exact hq
      · exact h1 h2
    rcases hy with hy | hy | hy
    · exact key _ _ (fun e => h y (.inl e)) hy
    · exact key _ _ (fun e => h y (.inr (.inl e))) hy
    · exact key _ _ (fun e => h y (.inr (.inr e))) hy
  · exact h
theorem tsee_len (d : Nat) (G : Int32) (q : w_Q) (S : w_S) : (tsee d G q S).1.length ≤ S.1.length + 1 := by
  unfold tsee
  split
  · show (S.1 ++ [q]).length ≤ _
    rw [List.length_append]
    exact Nat.le_refl _
  split
  · exact Nat.le_succ _
  · exact Nat.le_succ _
theorem tw_keep (r : Nat → Int32) (c : Nat) : ∀ (f k e d : Nat) (G : Int32) (S : w_S), e ≤ 600 → z_s0 S → z_s0 (fn_tw r c f k e d G S).2 ∧ (0 < d → (fn_tw r c f k e d G S).2.1 = S.1)
  | 0, _, _, _, _, _, _, h => ⟨h, fun _ => rfl⟩
  | f + 1, k, e, d, G, S, he, h => by
    rw [tw_s]
    by_cases h1 : e ≤ k
    · rw [if_pos h1]; exact ⟨h, fun _ => rfl⟩
    rw [if_neg h1]
    by_cases h2 : e - k < 8
    · rw [if_pos h2]; exact ⟨h, fun _ => rfl⟩
    rw [if_neg h2]
    by_cases h3 : nl r c k < fn_hs r c k ∨ e - k < nl r c k
    · rw [if_pos h3]; exact ⟨h, fun _ => rfl⟩
    rw [if_neg h3]
    by_cases h4 : u8 r c (k + 4) &&& 31 ≠ 0
    · rw [if_pos h4]; exact ⟨h, fun _ => rfl⟩
    rw [if_neg h4]
    by_cases h5 : fn_kd r c k = 0
    · rw [if_pos h5]
      by_cases h6 : u8 r c (k + 4) &&& 64 ≠ 0
      · rw [if_pos h6]; exact ⟨h, fun _ => rfl⟩
      · rw [if_neg h6]
        exact tw_keep r c f _ e d G S he h
    rw [if_neg h5]
    by_cases h7 : ¬ fn_fits (fn_kd r c k) (nl r c k - 8) ∨ (fn_kd r c k = 5 ∧ d = 3)
    · rw [if_pos h7]; exact ⟨h, fun _ => rfl⟩
    rw [if_neg h7]
    have hS0 : z_s0 (tsee d G (n4 r c k, k + 8, nl r c k - 8) S) := tsee_s0 h ⟨by show 0 < k + 8; omega, by show k + 8 < 2000; omega⟩
    have hS1 : 0 < d → (tsee d G (n4 r c k, k + 8, nl r c k - 8) S).1 = S.1 := fun hd => tsee_1 hd G _ S
    generalize tsee d G (n4 r c k, k + 8, nl r c k - 8) S = S' at *
    by_cases h8 : fn_kd r c k = 5
    · rw [if_pos h8]
      have ih := tw_keep r c f (k + 8) (k + nl r c k) (d + 1) (tgrp d (n4 r c k) S'.1) S' (by omega) hS0
      generalize fn_tw r c f (k + 8) (k + nl r c k) (d + 1) (tgrp d (n4 r c k) S'.1) S' = X at *
      split
      · exact ⟨ih.1, fun hd => (ih.2 (by omega)).trans (hS1 hd)⟩
      · have ih2 := tw_keep r c f (k + (nl r c k + 3) / 4 * 4) e d G X.2 he ih.1
        exact ⟨ih2.1, fun hd => (ih2.2 hd).trans ((ih.2 (by omega)).trans (hS1 hd))⟩
    · rw [if_neg h8]
      have ih2 := tw_keep r c f (k + (nl r c k + 3) / 4 * 4) e d G S' he hS0
      exact ⟨ih2.1, fun hd => (ih2.2 hd).trans (hS1 hd)⟩
theorem mw_group {T σ : z_St} {A : w_A} (hM : w_M T σ A) {S : w_S} {c : Nat} (hs : z_tw (vI A 64) σ c S) (hl : S.1.length ≤ 200) {d dep : Nat} {code x : Int32} (hx : x = Int32.ofNat dep) (hd : dep ≤ 3) {Q : z_St → Option z_V → Prop} (k : Q σ (some (.inl (tgrp dep code S.1)))) : wp (zD (d + 1) 113 [.inr (.inr (some (8, 0))), .inl code, .inl x] σ) Q := by
  subst hx
  refine wp_eq (c113 ..) (wp_eq (e113_0 ..) (wp_if (fun h => ?_) (fun h => ?_))) <;> rw [io_le_l (by omega) (by decide)] at h
  · have h : ¬ 0 < dep := by
      have : dep ≤ 0 := h
      omega
    have k9 : ∀ (n : Nat) (y : Int32), 9 ≤ n → n < 12 → y = z_keys.getD n 0 → (if fn_many S.1 y = 1 then Int32.ofNat n else -1) = tgrp dep code S.1 → wp (E xP113 (zD d) 9 [some (.inr (.inr (some (8, 0)))), none, none, none] [.inl (Int32.ofNat n)] σ) Q := by
      intro n y h9 h12 hy he
      rw [← he] at k
      have hm := (hs.1 n h12).1
      rw [← hy] at hm
      have hml := many_le S.1 y
      refine wp_eq (e113_9 ..) (wp_if (fun hn => absurd hn (io_neg (by omega))) (fun hn => ?_))
      refine wp_eq (e113_10 ..) (wp_ar (rm_p79 hM) aty_68157840 alen_68157840 rfl (by omega) (by decide) ?_)
      dsimp only
      rw [io_nat (by omega), hm]
      refine wp_if (fun h0 => ?_) (fun h0 => ?_) <;> rw [io_eq_l (by omega) (by decide)] at h0
      · rw [if_pos h0] at k
        exact wp_eq (e113_11 ..) (wp_eq (e113_13 ..) (wp_ret k))
      · rw [if_neg h0] at k
        exact wp_eq (e113_12 ..) (wp_eq (e113_13 ..) (wp_ret k))
    refine wp_eq (e113_2 ..) (wp_if (fun h1 => ?_) (fun h1 => ?_))
    · refine wp_eq (e113_3 ..) (k9 9 443 (by decide) (by decide) rfl ?_)
      unfold tgrp
      rw [if_neg h, if_pos h1]
      rfl
    refine wp_eq (e113_4 ..) (wp_if (fun h2 => ?_) (fun h2 => ?_))
    · refine wp_eq (e113_5 ..) (k9 10 437 (by decide) (by decide) rfl ?_)
      unfold tgrp
      rw [if_neg h, if_neg h1, if_pos h2]
      rfl
    refine wp_eq (e113_6 ..) (wp_if (fun h3 => ?_) (fun h3 => ?_))
    · refine wp_eq (e113_7 ..) (k9 11 446 (by decide) (by decide) rfl ?_)
      unfold tgrp
      rw [if_neg h, if_neg h1, if_neg h2, if_pos h3]
      rfl
    · unfold tgrp at k
      rw [if_neg h, if_neg h1, if_neg h2, if_neg h3] at k
      exact wp_eq (e113_8 ..) (wp_eq (e113_9 ..) (wp_if (fun _ => wp_eq (e113_12 ..) (wp_eq (e113_13 ..) (wp_ret k))) (fun q => absurd (by decide) q)))
  · have h : 0 < dep := by
      have : ¬ dep ≤ 0 := h
      omega
    unfold tgrp at k
    rw [if_pos h] at k
    exact wp_eq (e113_1 ..) (wp_ret k)
