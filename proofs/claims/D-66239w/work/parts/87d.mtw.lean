/-! PART 87d (src 87d.mtw.src): the twin's loop and the component's walk see the same -/
set_option maxHeartbeats 800000
theorem ins_fuel {r : Nat → Int32} {c : Nat} {code : Int32} : ∀ (f g k e : Nat), f ≤ g → z_okk r c f k e → fn_ins r c code f k e = fn_ins r c code g k e
  | 0, 0, _, _, _, _ => rfl
  | 0, g + 1, k, e, _, h => by
    have h : e ≤ k := h
    rw [fn_ins_s, if_pos h]
    rfl
  | f + 1, 0, _, _, h, _ => absurd h (by omega)
  | f + 1, g + 1, k, e, hg, h => by
    rw [fn_ins_s, fn_ins_s]
    by_cases h1 : e ≤ k
    · rw [if_pos h1, if_pos h1]
    rw [if_neg h1, if_neg h1]
    rcases h with h | ⟨_, _, _, _, h5⟩
    · exact absurd h h1
    rw [ins_fuel f g _ e (by omega) h5]
def z_s1 (r : Nat → Int32) (c f k e : Nat) (G : Int32) (S : w_S) : w_S := (S.1, if G = 9 then z_or S.2.1 (fn_ins r c 444 f k e) else S.2.1, if G = 10 then z_or S.2.2.1 (fn_ins r c 421 f k e) else S.2.2.1, if G = 11 then z_or S.2.2.2 (fn_ins r c 421 f k e) else S.2.2.2)
theorem or_or (a : Option (Nat × Nat)) (q : Nat × Nat) (b : Option (Nat × Nat)) : z_or (z_or a (some q)) b = z_or a (some q) := by
  cases a <;> rfl
theorem or_no (a : Option (Nat × Nat)) : z_or a none = a := by cases a <;> rfl
theorem s1_no {r : Nat → Int32} {c f k e : Nat} {G : Int32} {S : w_S} (h : ∀ code, ¬ fn_kind code = 0 → fn_ins r c code f k e = none) : z_s1 r c f k e G S = S := by
  unfold z_s1
  rw [h 444 (by decide), h 421 (by decide), or_no, or_no, or_no]
  simp
theorem s1_step {r : Nat → Int32} {c f k e : Nat} {G : Int32} {S : w_S} (h : ∀ code, ¬ fn_kind code = 0 → fn_ins r c code (f + 1) k e = fn_ins r c code f (k + (nl r c k + 3) / 4 * 4) e) : z_s1 r c (f + 1) k e G S = z_s1 r c f (k + (nl r c k + 3) / 4 * 4) e G S := by
  unfold z_s1
  rw [h 444 (by decide), h 421 (by decide)]
theorem s1_see {r : Nat → Int32} {c f k e : Nat} {G : Int32} {S : w_S} (h1 : ¬ e ≤ k) (h8 : fn_hs r c k = 8) : z_s1 r c (f + 1) k e G S = z_s1 r c f (k + (nl r c k + 3) / 4 * 4) e G (tsee 1 G (n4 r c k, k + 8, nl r c k - 8) S) := by
  have key : ∀ (b : Prop) [Decidable b] (code : Int32) (s : Option (Nat × Nat)), (if b then z_or s (fn_ins r c code (f + 1) k e) else s) = if b then z_or (if b ∧ n4 r c k = code then z_or s (some (k + 8, nl r c k - 8)) else s) (fn_ins r c code f (k + (nl r c k + 3) / 4 * 4) e) else (if b ∧ n4 r c k = code then z_or s (some (k + 8, nl r c k - 8)) else s) := by
    intro b _ code s
    by_cases hb : b
    · rw [if_pos hb, if_pos hb, fn_ins_s, if_neg h1]
      by_cases hn : n4 r c k = code
      · rw [if_pos ⟨h8, hn⟩, if_pos ⟨hb, hn⟩, or_or]
      · rw [if_neg (fun q => hn q.2), if_neg (fun q => hn q.2)]
    · rw [if_neg hb, if_neg hb, if_neg (fun q => hb q.1)]
  unfold z_s1
  rw [key (G = 9) 444, key (G = 10) 421, key (G = 11) 421]
  rfl
/-- deep down: the same faults; nothing more is seen -/
theorem tw_deep (r : Nat → Int32) (c : Nat) : ∀ (f k e d : Nat) (G : Int32) (S : w_S), 1 ≤ d → (fn_tw r c f k e d G S).1 = (fn_walk r c f k e d []).1 ∧ (2 ≤ d → (fn_tw r c f k e d G S).2 = S) ∧ (d = 1 → (fn_walk r c f k e d []).1.1 = 0 → (fn_tw r c f k e d G S).2 = z_s1 r c f k e G S)
  | 0, k, e, d, G, S, _ => ⟨rfl, fun _ => rfl, fun _ _ => (s1_no (fun _ _ => rfl)).symm⟩
  | f + 1, k, e, d, G, S, hd => by
    have ih := fun k e d G S => tw_deep r c f k e d G S
    rw [tw_s, walk_s]
    by_cases h1 : e ≤ k
    · rw [if_pos h1, if_pos h1]
      exact ⟨rfl, fun _ => rfl, fun _ _ => (s1_no (fun code _ => by rw [fn_ins_s, if_pos h1])).symm⟩
    rw [if_neg h1, if_neg h1]
    by_cases h2 : e - k < 8
    · rw [if_pos h2, if_pos h2]
      exact ⟨rfl, fun _ => rfl, fun _ q => absurd q (show ¬ (5014 : Int32) = 0 by decide)⟩
    rw [if_neg h2, if_neg h2]
    by_cases h3 : nl r c k < fn_hs r c k ∨ e - k < nl r c k
    · rw [if_pos h3, if_pos h3]
      exact ⟨rfl, fun _ => rfl, fun _ q => absurd q (show ¬ (5014 : Int32) = 0 by decide)⟩
    rw [if_neg h3, if_neg h3]
    by_cases h4 : u8 r c (k + 4) &&& 31 ≠ 0
    · rw [if_pos h4, if_pos h4]
      exact ⟨rfl, fun _ => rfl, fun _ q => absurd q (show ¬ (3009 : Int32) = 0 by decide)⟩
    rw [if_neg h4, if_neg h4]
    by_cases h5 : fn_kd r c k = 0
    · rw [if_pos h5, if_pos h5]
      by_cases h6 : u8 r c (k + 4) &&& 64 ≠ 0
      · rw [if_pos h6, if_pos h6]
        exact ⟨rfl, fun _ => rfl, fun _ q => absurd q (show ¬ (5001 : Int32) = 0 by decide)⟩
      · rw [if_neg h6, if_neg h6]
        have i := ih (k + (nl r c k + 3) / 4 * 4) e d G S hd
        refine ⟨i.1, i.2.1, fun q w => (i.2.2 q w).trans (s1_step (fun code hc => ?_)).symm⟩
        rw [fn_ins_s, if_neg h1, if_neg]
        rintro ⟨g1, g2⟩
        apply hc
        rw [← g2, ← h5]
        unfold fn_kd
        unfold fn_hs at g1
        split at g1
        · rename_i q; rw [if_pos q]
        · exact absurd g1 (by decide)
    rw [if_neg h5, if_neg h5]
    by_cases h7 : ¬ fn_fits (fn_kd r c k) (nl r c k - 8) ∨ (fn_kd r c k = 5 ∧ d = 3)
    · rw [if_pos h7, if_pos h7]
      exact ⟨rfl, fun _ => rfl, fun _ q => absurd q (show ¬ (5014 : Int32) = 0 by decide)⟩
    rw [if_neg h7, if_neg h7]
    have hd0 : ¬ d = 0 := by omega
    have hS2 : 2 ≤ d → tsee d G (n4 r c k, k + 8, nl r c k - 8) S = S := by
      intro h
      unfold tsee
      rw [if_neg (by omega), if_neg (by omega)]
    have hS1 : d = 1 → z_s1 r c (f + 1) k e G S = z_s1 r c f (k + (nl r c k + 3) / 4 * 4) e G (tsee d G (n4 r c k, k + 8, nl r c k - 8) S) := by
      rintro rfl
      exact s1_see h1 (hs_8 h5).1
    rw [if_neg hd0]
    generalize tsee d G (n4 r c k, k + 8, nl r c k - 8) S = S' at *
    by_cases h8 : fn_kd r c k = 5
    · rw [if_pos h8]
      have i := ih (k + 8) (k + nl r c k) (d + 1) (tgrp d (n4 r c k) S'.1) S' (by omega)
      by_cases hw : (fn_walk r c f (k + 8) (k + nl r c k) (d + 1) []).1.1 ≠ 0
      · rw [if_pos (show _ ≠ (0 : Int32) by rw [i.1]; exact hw), if_pos ⟨h8, hw⟩]
        exact ⟨i.1, fun h => (i.2.1 (by omega)).trans (hS2 h), fun _ q => absurd q hw⟩
      · rw [if_neg (show ¬ _ ≠ (0 : Int32) by rw [i.1]; exact hw), if_neg (fun q => hw q.2), i.2.1 (by omega)]
        have j := ih (k + (nl r c k + 3) / 4 * 4) e d G S' hd
        exact ⟨j.1, fun h => (j.2.1 h).trans (hS2 h), fun q w => (j.2.2 q w).trans (hS1 q).symm⟩
    · rw [if_neg h8, if_neg (fun q => h8 q.1)]
      have j := ih (k + (nl r c k + 3) / 4 * 4) e d G S' hd
      exact ⟨j.1, fun h => (j.2.1 h).trans (hS2 h), fun q w => (j.2.2 q w).trans (hS1 q).symm⟩
/-- what was seen inside the groups -/
def z_g1 (r : Nat → Int32) (c : Nat) (l : List w_Q) (grp code : Int32) : Option (Nat × Nat) := match fn_find l grp with
  | some q => fn_ins r c code 601 q.2.1 (q.2.1 + q.2.2)
  | none => none
def z_slo (r : Nat → Int32) (c : Nat) (l : List w_Q) : w_S := (l, z_g1 r c l 443 444, z_g1 r c l 437 421, z_g1 r c l 446 421)
theorem g1_not {r : Nat → Int32} {c : Nat} {l : List w_Q} {q : w_Q} {grp code : Int32} (h : ¬ q.1 = grp ∨ ¬ fn_find l grp = none) : z_g1 r c (l ++ [q]) grp code = z_g1 r c l grp code := by
  unfold z_g1
  rw [find_app]
  cases e : fn_find l grp with
  | none =>
    rcases h with h | h
    · dsimp only
      rw [if_neg h]
    · exact absurd e h
  | some y => rfl
theorem g1_new {r : Nat → Int32} {c : Nat} {l : List w_Q} {q : w_Q} {grp code : Int32} (h : q.1 = grp) (h2 : fn_find l grp = none) : z_g1 r c (l ++ [q]) grp code = fn_ins r c code 601 q.2.1 (q.2.1 + q.2.2) ∧ z_g1 r c l grp code = none := by
  unfold z_g1
  rw [find_app, h2]
  dsimp only
  rw [if_pos h]
  exact ⟨rfl, rfl⟩
theorem sl_grp {r : Nat → Int32} {c f k n : Nat} {l : List w_Q} {x : Int32} (hi : ∀ code, fn_ins r c code f k (k + n) = fn_ins r c code 601 k (k + n)) : z_s1 r c f k (k + n) (tgrp 0 x (l ++ [(x, k, n)])) (l ++ [(x, k, n)], (z_slo r c l).2) = z_slo r c (l ++ [(x, k, n)]) := by
  have key : ∀ grp, fn_many (l ++ [(grp, k, n)]) grp = 1 ↔ fn_find l grp = none := by
    intro grp
    rw [many_app, if_pos rfl, ← many_0]
    omega
  have un : ∀ G : Int32, ¬ G = 9 → ¬ G = 10 → ¬ G = 11 → ∀ S, z_s1 r c f k (k + n) G S = S := by
    intro G h1 h2 h3 S
    unfold z_s1
    rw [if_neg h1, if_neg h2, if_neg h3]
  unfold tgrp
  rw [if_neg (by omega)]
  by_cases h1 : x = 443
  · subst h1
    rw [if_pos rfl]
    by_cases hn : fn_find l 443 = none
    · rw [if_pos ((key 443).mpr hn)]
      have e1 := g1_new (r := r) (c := c) (l := l) (q := (443, k, n)) (code := 444) rfl hn
      unfold z_s1 z_slo
      dsimp only
      rw [if_pos rfl, if_neg (by decide), if_neg (by decide), e1.1, e1.2, hi, g1_not (.inl (show ¬ (443 : Int32) = 437 by decide)), g1_not (.inl (show ¬ (443 : Int32) = 446 by decide))]
      rfl
    · rw [if_neg (fun q => hn ((key 443).mp q)), un _ (by decide) (by decide) (by decide)]
      unfold z_slo
      rw [g1_not (.inr hn), g1_not (.inl (show ¬ (443 : Int32) = 437 by decide)), g1_not (.inl (show ¬ (443 : Int32) = 446 by decide))]
  rw [if_neg h1]
  by_cases h2 : x = 437
  · subst h2
    rw [if_pos rfl]
    by_cases hn : fn_find l 437 = none
    · rw [if_pos ((key 437).mpr hn)]
      have e1 := g1_new (r := r) (c := c) (l := l) (q := (437, k, n)) (code := 421) rfl hn
      unfold z_s1 z_slo
      dsimp only
      rw [if_neg (by decide), if_pos rfl, if_neg (by decide), e1.1, e1.2, hi, g1_not (.inl (show ¬ (437 : Int32) = 443 by decide)), g1_not (.inl (show ¬ (437 : Int32) = 446 by decide))]
      rfl
    · rw [if_neg (fun q => hn ((key 437).mp q)), un _ (by decide) (by decide) (by decide)]
      unfold z_slo
      rw [g1_not (.inr hn), g1_not (.inl (show ¬ (437 : Int32) = 443 by decide)), g1_not (.inl (show ¬ (437 : Int32) = 446 by decide))]
  rw [if_neg h2]
  by_cases h3 : x = 446
  · subst h3
    rw [if_pos rfl]
    by_cases hn : fn_find l 446 = none
    · rw [if_pos ((key 446).mpr hn)]
      have e1 := g1_new (r := r) (c := c) (l := l) (q := (446, k, n)) (code := 421) rfl hn
      unfold z_s1 z_slo
      dsimp only
      rw [if_neg (by decide), if_neg (by decide), if_pos rfl, e1.1, e1.2, hi, g1_not (.inl (show ¬ (446 : Int32) = 443 by decide)), g1_not (.inl (show ¬ (446 : Int32) = 437 by decide))]
      rfl
    · rw [if_neg (fun q => hn ((key 446).mp q)), un _ (by decide) (by decide) (by decide)]
      unfold z_slo
      rw [g1_not (.inr hn), g1_not (.inl (show ¬ (446 : Int32) = 443 by decide)), g1_not (.inl (show ¬ (446 : Int32) = 437 by decide))]
  rw [if_neg h3, un _ (by decide) (by decide) (by decide)]
  unfold z_slo
  rw [g1_not (.inl (show ¬ x = 443 from h1)), g1_not (.inl (show ¬ x = 437 from h2)), g1_not (.inl (show ¬ x = 446 from h3))]
theorem tw_l1 (r : Nat → Int32) (c : Nat) : ∀ (f k e d : Nat) (G : Int32) (S : w_S), 0 < d → (fn_tw r c f k e d G S).2.1 = S.1
  | 0, _, _, _, _, _, _ => rfl
  | f + 1, k, e, d, G, S, hd => by
    rw [tw_s]
    have hS1 : (tsee d G (n4 r c k, k + 8, nl r c k - 8) S).1 = S.1 := tsee_1 hd G _ S
    generalize tsee d G (n4 r c k, k + 8, nl r c k - 8) S = S' at *
    have ih := tw_l1 r c f (k + 8) (k + nl r c k) (d + 1) (tgrp d (n4 r c k) S'.1) S' (by omega)
    generalize fn_tw r c f (k + 8) (k + nl r c k) (d + 1) (tgrp d (n4 r c k) S'.1) S' = X at *
    have i2 := fun k S => tw_l1 r c f k e d G S hd
    repeat' split
    all_goals first | rfl | exact i2 _ _ | exact ih.trans hS1 | exact (i2 _ _).trans hS1 | exact (i2 _ _).trans (ih.trans hS1)
/-- at the top: the same faults, the same seen (a fault inside a group: the group was seen as well) -/
theorem tw_top (r : Nat → Int32) (c : Nat) : ∀ (f k e : Nat) (G : Int32) (l : List w_Q), f ≤ 601 → e ≤ k + f → (fn_tw r c f k e 0 G (z_slo r c l)).1 = (fn_walk r c f k e 0 l).1 ∧ ((fn_walk r c f k e 0 l).1.1 = 0 → (fn_tw r c f k e 0 G (z_slo r c l)).2 = z_slo r c (fn_walk r c f k e 0 l).2) ∧ ((fn_tw r c f k e 0 G (z_slo r c l)).2.1 = (fn_walk r c f k e 0 l).2 ∨ ∃ q : w_Q, fn_kind q.1 = 5 ∧ (fn_tw r c f k e 0 G (z_slo r c l)).2.1 = (fn_walk r c f k e 0 l).2 ++ [q])
  | 0, k, e, G, l, _, _ => ⟨rfl, fun _ => rfl, .inl rfl⟩
  | f + 1, k, e, G, l, hf, he => by
    have ih := fun k l => tw_top r c f k e G l
    rw [tw_s, walk_s]
    by_cases h1 : e ≤ k
    · rw [if_pos h1, if_pos h1]
      exact ⟨rfl, fun _ => rfl, .inl rfl⟩
    rw [if_neg h1, if_neg h1]
    by_cases h2 : e - k < 8
    · rw [if_pos h2, if_pos h2]
      exact ⟨rfl, fun q => absurd q (show ¬ (5014 : Int32) = 0 by decide), .inl rfl⟩
    rw [if_neg h2, if_neg h2]
    by_cases h3 : nl r c k < fn_hs r c k ∨ e - k < nl r c k
    · rw [if_pos h3, if_pos h3]
      exact ⟨rfl, fun q => absurd q (show ¬ (5014 : Int32) = 0 by decide), .inl rfl⟩
    rw [if_neg h3, if_neg h3]
    have hh := hs_ge r c k
    by_cases h4 : u8 r c (k + 4) &&& 31 ≠ 0
    · rw [if_pos h4, if_pos h4]
      exact ⟨rfl, fun q => absurd q (show ¬ (3009 : Int32) = 0 by decide), .inl rfl⟩
    rw [if_neg h4, if_neg h4]
    by_cases h5 : fn_kd r c k = 0
    · rw [if_pos h5, if_pos h5]
      by_cases h6 : u8 r c (k + 4) &&& 64 ≠ 0
      · rw [if_pos h6, if_pos h6]
        exact ⟨rfl, fun q => absurd q (show ¬ (5001 : Int32) = 0 by decide), .inl rfl⟩
      · rw [if_neg h6, if_neg h6]
        exact ih (k + (nl r c k + 3) / 4 * 4) l (by omega) (by omega)
    rw [if_neg h5, if_neg h5]
    by_cases h7 : ¬ fn_fits (fn_kd r c k) (nl r c k - 8) ∨ (fn_kd r c k = 5 ∧ 0 = 3)
    · rw [if_pos h7, if_pos h7]
      exact ⟨rfl, fun q => absurd q (show ¬ (5014 : Int32) = 0 by decide), .inl rfl⟩
    rw [if_neg h7, if_neg h7, if_pos rfl]
    have hkk := (hs_8 h5).2
    have e0 : tsee 0 G (n4 r c k, k + 8, nl r c k - 8) (z_slo r c l) = (l ++ [(n4 r c k, k + 8, nl r c k - 8)], (z_slo r c l).2) := rfl
    rw [e0]
    by_cases h8 : fn_kd r c k = 5
    · rw [if_pos h8]
      have i := tw_deep r c f (k + 8) (k + nl r c k) (0 + 1) (tgrp 0 (n4 r c k) (l ++ [(n4 r c k, k + 8, nl r c k - 8)])) (l ++ [(n4 r c k, k + 8, nl r c k - 8)], (z_slo r c l).2) (by omega)
      by_cases hw : (fn_walk r c f (k + 8) (k + nl r c k) (0 + 1) []).1.1 ≠ 0
      · have hk := tw_deep r c f (k + 8) (k + nl r c k) (0 + 1)
        rw [if_pos (show _ ≠ (0 : Int32) by rw [i.1]; exact hw), if_pos ⟨h8, hw⟩]
        refine ⟨i.1, fun q => absurd q hw, .inr ⟨(n4 r c k, k + 8, nl r c k - 8), ?_, ?_⟩⟩
        · rw [← hkk]; exact h8
        · exact tw_l1 r c f (k + 8) (k + nl r c k) (0 + 1) _ _ (by omega)
      · rw [if_neg (show ¬ _ ≠ (0 : Int32) by rw [i.1]; exact hw), if_neg (fun q => hw q.2)]
        have hw0 : (fn_walk r c f (k + 8) (k + nl r c k) (0 + 1) []).1.1 = 0 := Classical.not_not.mp hw
        have hok := walk_ok r c f (k + 8) (k + nl r c k) (0 + 1) [] (by omega) hw0
        have e2 : k + nl r c k = k + 8 + (nl r c k - 8) := by omega
        have e3 := i.2.2 rfl hw0
        rw [e2] at e3 hok
        rw [sl_grp (fun code => ins_fuel f 601 _ _ (by omega) hok)] at e3
        rw [← e2] at e3
        rw [e3]
        exact ih (k + (nl r c k + 3) / 4 * 4) _ (by omega) (by omega)
    · rw [if_neg h8, if_neg (fun q => h8 q.1)]
      have e4 : (l ++ [(n4 r c k, k + 8, nl r c k - 8)], (z_slo r c l).2) = z_slo r c (l ++ [(n4 r c k, k + 8, nl r c k - 8)]) := by
        have ne : ∀ g, fn_kind g = 5 → ¬ n4 r c k = g := by
          intro g hg e
          apply h8
          rw [hkk, e]
          exact hg
        unfold z_slo
        rw [g1_not (.inl (ne 443 (by decide))), g1_not (.inl (ne 437 (by decide))), g1_not (.inl (ne 446 (by decide)))]
      rw [e4]
      exact ih (k + (nl r c k + 3) / 4 * 4) _ (by omega) (by omega)
