/-! PART 97b (src 97b.xinit.src, printed by wip/gen/g97b.py): the component is made -/
set_option maxHeartbeats 400000
set_option maxRecDepth 10000
def z_sd (s d : Nat) : Prop := s ≤ d ∧ (d < 8 ∨ d = 9 ∨ d = 11 ∨ d = 13 ∨ d = 15)
def z_er (s k4 k5 k6 k7 : Nat) (c d m : Nat) : Prop := (c = 0 ∧ m = 0 ∧ z_sd s d) ∨ (c = 1048852 ∧ d = 0 ∧ k4 ≤ m ∧ m < 8) ∨ (c = 4194839 ∧ d = 0 ∧ k5 ≤ m ∧ m < 16) ∨ (c = 5244952 ∧ d = 0 ∧ k6 ≤ m ∧ m < 64) ∨ (c = 6292505 ∧ d = 0 ∧ k7 ≤ m ∧ m < 32)
theorem er_st {s s' j k4 k5 k6 k7 c d m : Nat} (h : ∀ d, z_sd s d → ¬ d = j → z_sd s' d) (q : z_er s k4 k5 k6 k7 c d m) (hn : ¬ (c = 0 ∧ d = j ∧ m = 0)) : z_er s' k4 k5 k6 k7 c d m := by
  rcases q with ⟨h1, h2, h3⟩ | q
  · exact .inl ⟨h1, h2, h d h3 (fun e => hn ⟨h1, e, h2⟩)⟩
  · exact .inr q
theorem er_k4 {s k k5 k6 k7 c d m : Nat} (q : z_er s k k5 k6 k7 c d m) (hn : ¬ (c = 1048852 ∧ d = 0 ∧ m = k)) : z_er s (k + 1) k5 k6 k7 c d m := by
  rcases q with q | ⟨h1, h2, h3, h4⟩ | q
  · exact .inl q
  · exact .inr (.inl ⟨h1, h2, Nat.lt_of_le_of_ne h3 (fun e => hn ⟨h1, h2, e.symm⟩), h4⟩)
  · exact .inr (.inr q)
theorem er_k5 {s k k4 k6 k7 c d m : Nat} (q : z_er s k4 k k6 k7 c d m) (hn : ¬ (c = 4194839 ∧ d = 0 ∧ m = k)) : z_er s k4 (k + 1) k6 k7 c d m := by
  rcases q with q | q | ⟨h1, h2, h3, h4⟩ | q
  · exact .inl q
  · exact .inr (.inl q)
  · exact .inr (.inr (.inl ⟨h1, h2, Nat.lt_of_le_of_ne h3 (fun e => hn ⟨h1, h2, e.symm⟩), h4⟩))
  · exact .inr (.inr (.inr q))
theorem er_k6 {s k k4 k5 k7 c d m : Nat} (q : z_er s k4 k5 k k7 c d m) (hn : ¬ (c = 5244952 ∧ d = 0 ∧ m = k)) : z_er s k4 k5 (k + 1) k7 c d m := by
  rcases q with q | q | q | ⟨h1, h2, h3, h4⟩ | q
  · exact .inl q
  · exact .inr (.inl q)
  · exact .inr (.inr (.inl q))
  · exact .inr (.inr (.inr (.inl ⟨h1, h2, Nat.lt_of_le_of_ne h3 (fun e => hn ⟨h1, h2, e.symm⟩), h4⟩)))
  · exact .inr (.inr (.inr (.inr q)))
theorem er_k7 {s k k4 k5 k6 c d m : Nat} (q : z_er s k4 k5 k6 k c d m) (hn : ¬ (c = 6292505 ∧ d = 0 ∧ m = k)) : z_er s k4 k5 k6 (k + 1) c d m := by
  rcases q with q | q | q | q | ⟨h1, h2, h3, h4⟩
  · exact .inl q
  · exact .inr (.inl q)
  · exact .inr (.inr (.inl q))
  · exact .inr (.inr (.inr (.inl q)))
  · exact .inr (.inr (.inr (.inr ⟨h1, h2, Nat.lt_of_le_of_ne h3 (fun e => hn ⟨h1, h2, e.symm⟩), h4⟩)))
theorem er_0 {s k4 k5 k6 k7 d : Nat} (h : ¬ z_sd s d) : ¬ z_er s k4 k5 k6 k7 0 d 0 := by
  rintro (q | q | q | q | q)
  · exact h q.2.2
  · exact absurd q.1 (by decide)
  · exact absurd q.1 (by decide)
  · exact absurd q.1 (by decide)
  · exact absurd q.1 (by decide)
theorem er_1 {s k4 k5 k6 k7 d m : Nat} : ¬ z_er s k4 k5 k6 k7 1 d m := by
  rintro (q | q | q | q | q) <;> exact absurd q.1 (by decide)
def z_e1t (a1 a2 a3 : Nat) (m : Nat) : Prop := (m = 1 ∧ a1 < 7) ∨ (m = 2 ∧ a2 < 5) ∨ (m = 3 ∧ a3 < 5)
def z_e8t (a1 a2 a3 : Nat) (d m : Nat) : Prop := (d = 1 ∧ a1 ≤ m ∧ m < 6) ∨ (d = 2 ∧ a2 ≤ m ∧ m < 4) ∨ (d = 3 ∧ a3 ≤ m ∧ m < 4)
def z_ei (a1 a2 a3 : Nat) (c d m : Nat) : Prop := (c = 1 ∧ d = 1 ∧ z_e1t a1 a2 a3 m) ∨ (c = 80741649 ∧ z_e8t a1 a2 a3 d m)
theorem ei_8 {a1 a2 a3 b1 b2 b3 t n c d m : Nat} (h1 : ∀ m, z_e1t a1 a2 a3 m → z_e1t b1 b2 b3 m) (h8 : ∀ d m, z_e8t a1 a2 a3 d m → ¬ (d = t ∧ m = n) → z_e8t b1 b2 b3 d m) (q : z_ei a1 a2 a3 c d m) (hn : ¬ (c = 80741649 ∧ d = t ∧ m = n)) : z_ei b1 b2 b3 c d m := by
  rcases q with ⟨q1, q2, q3⟩ | ⟨q1, q2⟩
  · exact .inl ⟨q1, q2, h1 m q3⟩
  · exact .inr ⟨q1, h8 d m q2 (fun e => hn ⟨q1, e⟩)⟩
theorem ei_1 {a1 a2 a3 b1 b2 b3 t c d m : Nat} (h1 : ∀ m, z_e1t a1 a2 a3 m → ¬ m = t → z_e1t b1 b2 b3 m) (h8 : ∀ d m, z_e8t a1 a2 a3 d m → z_e8t b1 b2 b3 d m) (q : z_ei a1 a2 a3 c d m) (hn : ¬ (c = 1 ∧ d = 1 ∧ m = t)) : z_ei b1 b2 b3 c d m := by
  rcases q with ⟨q1, q2, q3⟩ | ⟨q1, q2⟩
  · exact .inl ⟨q1, q2, h1 m q3 (fun e => hn ⟨q1, q2, e⟩)⟩
  · exact .inr ⟨q1, h8 d m q2⟩
theorem getD_0 {l : List Int32} {m : Nat} (h : l.length ≤ m) : l.getD m 0 = 0 := by
  rw [List.getD_eq_getElem?_getD, List.getElem?_eq_none h]
  rfl
theorem ei_T {xs : Nat → Int32} (t : Nat) : (∀ d, z_ei 0 0 0 1 d t ∨ z_mui xs 1 d t = 0) ∧ ∀ m, z_ei 0 0 0 80741649 t m ∨ z_mui xs 80741649 t m = 0 := by
  by_cases h : 1 ≤ t ∧ t ≤ 3
  · refine ⟨fun d => ?_, fun m => ?_⟩
    · by_cases e : d = 1
      · left; exact .inl ⟨rfl, e, by unfold z_e1t; omega⟩
      · right; unfold z_mui; rw [if_neg (by decide), if_pos rfl, if_neg e]
    · by_cases e : (t = 1 ∧ m < 6) ∨ (t = 2 ∧ m < 4) ∨ (t = 3 ∧ m < 4)
      · left; exact .inr ⟨rfl, by unfold z_e8t; omega⟩
      · right
        unfold z_mui
        rw [if_neg (by decide), if_neg (by decide), if_pos rfl]
        split
        · exact getD_0 (by show 6 ≤ m; omega)
        split
        · exact getD_0 (by show 4 ≤ m; omega)
        split
        · exact getD_0 (by show 4 ≤ m; omega)
        · rfl
  · exact ⟨fun d => .inr ((mui_T h).1 d), fun m => .inr ((mui_T h).2 m)⟩
theorem cs_P {L : Nat} {xs : Nat → Int32} {EI ER : Nat → Nat → Nat → Prop} {f : Nat → Nat} {ln sl : Nat} {σ : z_St} (h : z_cs L xs z_un EI ER f ln sl σ) (h2 : f 2 = 0) (h7 : f 79714193 = 0) {d : Nat} {F : z_St → Option z_R} {Q : z_St → Option z_V → Prop} (k : ∀ σ2 f2, z_cs L xs z_un EI ER f2 (ln + 2) (sl + 702) σ2 → f2 = va_up (va_up f 2 1) 79714193 1 → wp (F σ2) Q) : wp (sw (nO σ 2 (cn σ 2 + z_off 2)) fun σ1 => cv (zD (d + 1) 216 [.inr (.inr (some (2, cn σ 2 + z_off 2)))] σ1) F) Q := by
  have e0 : cn σ 2 + z_off 2 = 0 := by rw [h.2.2.2.1, h2]; rfl
  rw [e0]
  have e8 : cn (nO σ 2 0) 79714193 + z_off 79714193 = 0 := by
    show va_up (cn σ) 2 (cn σ 2 + 1) 79714193 + z_off 79714193 = 0
    rw [h.2.2.2.1]
    exact h7
  refine wp_sw (wp_cv (wp_eq (c216 ..) (wp_eq (e216_0 ..) (wp_sw (wp_sw (wp_ret ⟨rfl, ?_⟩))))))
  rw [e8]
  have a1 := cs_O (V := z_un) (FI := EI) (FR := fun c d m => ER c d m ∨ (c = 2 ∧ d = 0 ∧ m = 0)) h (a := 2) (n := 0) (by decide) (fun d => .inr (mui_0 (by decide) _ _)) (fun d => by
    by_cases e : d = 0
    · exact .inl (.inr ⟨rfl, e, rfl⟩)
    · right
      unfold z_mur
      rw [if_neg (by decide), if_neg (by decide), if_pos rfl, if_neg (fun g => e g.1)]) (fun _ _ _ q => q) (fun _ _ _ q => .inl q) (fun b hb => ⟨hb, fun e => by subst e; unfold z_un at hb; omega⟩)
  have a2 := cs_A (V := z_un) (FI := EI) (FR := fun c d m => ER c d m ∨ (c = 2 ∧ d = 0 ∧ m = 0)) a1 (a := 79714193) (n := 0) (by decide) (fun m => .inr (mui_0 (by decide) _ _)) (fun m => .inr (mur_0 (by decide) _ _)) (fun _ _ _ q => q) (fun _ _ _ q => q) (fun b hb => ⟨hb, fun e => by subst e; unfold z_un at hb; omega⟩)
  have a3 := cs_R (FR := ER) a2 (a := 2) (b := 0) (n := 0) (x := some (79714193, 0)) rfl (fun c d m q hn => q.elim id (fun g => absurd g hn))
  have e1 : sl + oN 2 + aLen 79714193 = sl + 702 := by
    have g1 := alen_79714193
    have g2 : oN 2 = 2 := rfl
    omega
  rw [e1] at a3
  refine k _ _ a3 ?_
  rw [h2, show va_up f 2 (0 + 1) 79714193 = 0 from h7]
theorem c247 (d : Nat) (σ : z_St) : zD (d + 1) 247 [] σ = some (rR (nA σ 75497658 (cn σ 75497658 + z_off 75497658)) 75497658 (cn σ 75497658 + z_off 75497658) (fun i => if i < 5 then some (12, i) else none), some (.inr (.inr (some (75497658, cn σ 75497658 + z_off 75497658))))) :=
  (show zD (d + 1) 247 [] σ = E xP247 (zD d) 0 [] [] σ from rfl).trans ((E_fix (pg247 ▸ pg_tame 247) (zm d) 0 _ _ _).trans rfl)
theorem cs_RR {L : Nat} {xs : Nat → Int32} {U : Nat → Prop} {EI ER : Nat → Nat → Nat → Prop} {f : Nat → Nat} {ln sl : Nat} {σ : z_St} (h : z_cs L xs U EI ER f ln sl σ) {a b : Nat} {r : Nat → Option z_Ad} (hr : ∀ m, r m = z_mur a b m) : z_cs L xs U EI ER f ln sl (rR σ a b r) := by
  obtain ⟨h1, h2, h3, h4, h5, h6, h7⟩ := h
  refine ⟨fun c d m g => h1 c d m g, fun c d m => h2 c d m, fun c d m g => ?_, h4, h5, h6, h7⟩
  rw [hR_rR]
  by_cases e : c = a ∧ d = b
  · rw [if_pos e, hr, e.1, e.2]
  · rw [if_neg e]
    exact h3 c d m g
theorem mur_3 {d : Nat} (h0 : ¬ d = 0) (h8 : ¬ d = 8) (h9 : ¬ d = 9) (h10 : ¬ d = 10) : z_mur 3 d 0 = none := by
  unfold z_mur
  rw [if_neg (by decide), if_neg (by decide), if_neg (by decide), if_pos rfl, if_pos rfl, if_neg h0, if_neg h8, if_neg h9, if_neg h10]
theorem cs_M {L : Nat} {xs : Nat → Int32} {EI ER : Nat → Nat → Nat → Prop} {f : Nat → Nat} {ln sl : Nat} {σ : z_St} (h : z_cs L xs z_un EI ER f ln sl σ) (h0 : f 3 = 0) (h1 : f 75497658 = 0) (h2 : f 76548624 = 0) (h3 : f 77597200 = 0) (h4 : f 78645776 = 0) (hER : ∀ m, ¬ ER 75497658 0 m) {d : Nat} {F : z_St → Option z_R} {Q : z_St → Option z_V → Prop} (k : ∀ σ2 f2, z_cs L xs z_un EI ER f2 (ln + 5) (sl + 260) σ2 → (∀ a, ¬ (a = 3 ∨ a = 75497658 ∨ a = 76548624 ∨ a = 77597200 ∨ a = 78645776) → f2 a = f a) → wp (F σ2) Q) : wp (sw (nO σ 3 (cn σ 3 + z_off 3)) fun σ1 => cv (zD (d + 2) 196 [.inr (.inr (some (3, cn σ 3 + z_off 3)))] σ1) F) Q := by
  have e0 : cn σ 3 + z_off 3 = 0 := by rw [h.2.2.2.1, h0]; rfl
  rw [e0]
  have e1 : cn (nO σ 3 0) 75497658 + z_off 75497658 = 0 := by
    show va_up (cn σ) 3 (cn σ 3 + 1) 75497658 + z_off 75497658 = 0
    rw [h.2.2.2.1]
    exact h1
  have hU : ∀ b, z_un b → z_un b ∧ ¬ b = 3 := fun b hb => ⟨hb, fun e => by subst e; unfold z_un at hb; omega⟩
  have a1 := cs_O (V := z_un) (FI := EI) (FR := fun c d m => ER c d m ∨ (c = 3 ∧ m = 0 ∧ (d = 0 ∨ 8 ≤ d ∧ d ≤ 10))) h (a := 3) (n := 0) (by decide) (fun d => .inr (mui_0 (by decide) _ _)) (fun d => by
    by_cases e : d = 0 ∨ 8 ≤ d ∧ d ≤ 10
    · exact .inl (.inr ⟨rfl, rfl, e⟩)
    · exact .inr (mur_3 (by omega) (by omega) (by omega) (by omega))) (fun _ _ _ q => q) (fun _ _ _ q => .inl q) hU
  have a2 := cs_A (V := z_un) (FI := EI) (FR := fun c d m => ER c d m ∨ (c = 3 ∧ m = 0 ∧ (d = 0 ∨ 8 ≤ d ∧ d ≤ 10)) ∨ (c = 75497658 ∧ d = 0)) a1 (a := 75497658) (n := 0) (by decide) (fun m => .inr (mui_0 (by decide) _ _)) (fun m => .inl (.inr (.inr ⟨rfl, rfl⟩))) (fun _ _ _ q => q) (fun _ _ _ q => q.elim .inl (fun g => .inr (.inl g))) (fun b hb => ⟨hb, fun e => by subst e; unfold z_un at hb; omega⟩)
  have a3 : z_cs L xs z_un EI (fun c d m => ER c d m ∨ (c = 3 ∧ m = 0 ∧ (d = 0 ∨ 8 ≤ d ∧ d ≤ 10))) (va_up (va_up f 3 (f 3 + 1)) 75497658 (va_up f 3 (f 3 + 1) 75497658 + 1)) (ln + 1 + 1) (sl + oN 3 + aLen 75497658) (rR (nA (nO σ 3 0) 75497658 0) 75497658 0 (fun i => if i < 5 then some (12, i) else none)) := by
    obtain ⟨g1, g2, g3, g4, g5, g6, g7⟩ := a2
    refine ⟨fun c d m g => g1 c d m g, fun c d m => g2 c d m, fun c d m g => ?_, g4, g5, g6, g7⟩
    rw [hR_rR]
    by_cases e : c = 75497658 ∧ d = 0
    · rw [if_pos e, e.1, e.2]
      have hm : z_mur 75497658 0 m = if 0 = 0 ∧ m < 5 then some (12, m) else none := by
        unfold z_mur
        rw [if_neg (by decide), if_neg (by decide), if_neg (by decide), if_neg (by decide), if_neg (by decide), if_neg (by decide), if_neg (by decide), if_neg (by decide), if_neg (by decide), if_pos rfl]
      rw [hm]
      by_cases q : m < 5
      · rw [if_pos q, if_pos ⟨rfl, q⟩]
      · rw [if_neg q, if_neg (fun g => q g.2)]
    · rw [if_neg e]
      exact g3 c d m (fun q => q.elim (fun q => g (.inl q)) (fun q => q.elim (fun q => g (.inr q)) e))
  refine wp_sw (wp_cv (wp_eq (c196 ..) (wp_eq (e196_0 ..) (wp_cr (wp_eq (c247 ..) ?_)))))
  rw [e1]
  refine wp_ret ⟨_, rfl, wp_asR0 (wp_sw ?_)⟩
  have f1 : ∀ a, ¬ (a = 3 ∨ a = 75497658 ∨ a = 76548624 ∨ a = 77597200 ∨ a = 78645776) → va_up (va_up f 3 (f 3 + 1)) 75497658 (va_up f 3 (f 3 + 1) 75497658 + 1) a = f a := fun a ha => by
    unfold va_up
    rw [if_neg (fun g => ha (.inr (.inl g))), if_neg (fun g => ha (.inl g))]
  have f2 : va_up (va_up f 3 (f 3 + 1)) 75497658 (va_up f 3 (f 3 + 1) 75497658 + 1) 76548624 = 0 := h2
  have f3 : va_up (va_up f 3 (f 3 + 1)) 75497658 (va_up f 3 (f 3 + 1) 75497658 + 1) 77597200 = 0 := h3
  have f4 : va_up (va_up f 3 (f 3 + 1)) 75497658 (va_up f 3 (f 3 + 1) 75497658 + 1) 78645776 = 0 := h4
  generalize va_up (va_up f 3 (f 3 + 1)) 75497658 (va_up f 3 (f 3 + 1) 75497658 + 1) = f' at *
  have a4 := cs_R (FR := fun c d m => ER c d m ∨ (c = 3 ∧ m = 0 ∧ 8 ≤ d ∧ d ≤ 10)) a3 (a := 3) (b := 0) (n := 0) (x := some (75497658, 0)) rfl (fun c d m q hn => q.elim .inl (fun g => .inr (by omega)))
  generalize wR (rR (nA (nO σ 3 0) 75497658 0) 75497658 0 (fun i => if i < 5 then some (12, i) else none)) 3 0 0 (some (75497658, 0)) = s4 at a4 ⊢
  rw [show cn s4 76548624 + z_off 76548624 = 0 from by rw [a4.2.2.2.1]; exact f2]
  have a5 := cs_A (V := z_un) (FI := EI) (FR := fun c d m => ER c d m ∨ (c = 3 ∧ m = 0 ∧ 8 ≤ d ∧ d ≤ 10)) a4 (a := 76548624) (n := 0) (by decide) (fun m => .inr (mui_0 (by decide) _ _)) (fun m => .inr (mur_0 (by decide) _ _)) (fun _ _ _ q => q) (fun _ _ _ q => q) (fun b hb => ⟨hb, fun e => by subst e; unfold z_un at hb; omega⟩)
  have a6 := cs_R (FR := fun c d m => ER c d m ∨ (c = 3 ∧ m = 0 ∧ 9 ≤ d ∧ d ≤ 10)) a5 (a := 3) (b := 8) (n := 0) (x := some (76548624, 0)) rfl (fun c d m q hn => q.elim .inl (fun g => .inr (by omega)))
  refine wp_sw (wp_sw ?_)
  generalize wR (nA s4 76548624 0) 3 8 0 (some (76548624, 0)) = s6 at a6 ⊢
  rw [show cn s6 77597200 + z_off 77597200 = 0 from by rw [a6.2.2.2.1]; exact f3]
  have a7 := cs_A (V := z_un) (FI := EI) (FR := fun c d m => ER c d m ∨ (c = 3 ∧ m = 0 ∧ 9 ≤ d ∧ d ≤ 10)) a6 (a := 77597200) (n := 0) (by decide) (fun m => .inr (mui_0 (by decide) _ _)) (fun m => .inr (mur_0 (by decide) _ _)) (fun _ _ _ q => q) (fun _ _ _ q => q) (fun b hb => ⟨hb, fun e => by subst e; unfold z_un at hb; omega⟩)
  have a8 := cs_R (FR := fun c d m => ER c d m ∨ (c = 3 ∧ m = 0 ∧ d = 10)) a7 (a := 3) (b := 9) (n := 0) (x := some (77597200, 0)) rfl (fun c d m q hn => q.elim .inl (fun g => .inr (by omega)))
  refine wp_sw (wp_sw ?_)
  generalize wR (nA s6 77597200 0) 3 9 0 (some (77597200, 0)) = s8 at a8 ⊢
  rw [show cn s8 78645776 + z_off 78645776 = 0 from by rw [a8.2.2.2.1]; exact f4]
  have a9 := cs_A (V := z_un) (FI := EI) (FR := fun c d m => ER c d m ∨ (c = 3 ∧ m = 0 ∧ d = 10)) a8 (a := 78645776) (n := 0) (by decide) (fun m => .inr (mui_0 (by decide) _ _)) (fun m => .inr (mur_0 (by decide) _ _)) (fun _ _ _ q => q) (fun _ _ _ q => q) (fun b hb => ⟨hb, fun e => by subst e; unfold z_un at hb; omega⟩)
  have b0 := cs_R (FR := ER) a9 (a := 3) (b := 10) (n := 0) (x := some (78645776, 0)) rfl (fun c d m q hn => q.elim id (fun g => absurd ⟨g.1, g.2.2, g.2.1⟩ hn))
  have e9 : sl + oN 3 + aLen 75497658 + aLen 76548624 + aLen 77597200 + aLen 78645776 = sl + 260 := by
    have g1 := alen_75497658
    have g2 := alen_76548624
    have g3 := alen_77597200
    have g4 := alen_78645776
    have g5 : oN 3 = 15 := rfl
    omega
  rw [e9] at b0
  refine wp_sw (wp_sw (wp_ret ⟨rfl, k _ _ b0 fun a ha => ?_⟩))
  unfold va_up
  rw [if_neg (fun g => ha (.inr (.inr (.inr (.inr g))))), if_neg (fun g => ha (.inr (.inr (.inr (.inl g))))), if_neg (fun g => ha (.inr (.inr (.inl g))))]
  exact f1 a ha
