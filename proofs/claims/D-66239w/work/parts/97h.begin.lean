/-! PART 97h (src 97h.begin.src): the state at the first call -/
set_option maxHeartbeats 1600000
set_option maxRecDepth 10000
def z_A0 : w_A := (fun _ _ => 0, fun _ _ => 0, fun v i => if v = 17 ∨ v = 18 then i else 0, fun v _ => if v = 1 then z_mh else [], none)
/-- the known memory -/
def z_sB (c : Nat → Nat) (l : List z_Ad) (xs : Nat → Int32) : z_St := (c, l, z_mui xs, fun _ _ _ => 0, z_mur)
theorem txt_4 {c : Nat → Nat} {l : List z_Ad} {xs : Nat → Int32} : x_txt (z_sB c l xs) 2 [104, 111, 109, 101] ∧ x_txt (z_sB c l xs) 3 [112, 101, 101, 114] := by
  refine ⟨⟨rfl, fun k h => ?_⟩, ⟨rfl, fun k h => ?_⟩⟩
  · match k, h with
    | 0, _ => rfl
    | 1, _ => rfl
    | 2, _ => rfl
    | 3, _ => rfl
    | k + 4, h => exact absurd h (by show ¬ k + 4 < 4; omega)
  · match k, h with
    | 0, _ => rfl
    | 1, _ => rfl
    | 2, _ => rfl
    | 3, _ => rfl
    | k + 4, h => exact absurd h (by show ¬ k + 4 < 4; omega)
theorem txt_h {c : Nat → Nat} {l : List z_Ad} {xs : Nat → Int32} : x_txt (z_sB c l xs) 1 z_mh ∧ m_row (z_sB c l xs) 8389905 0 z_mh := by
  refine ⟨⟨rfl, fun k h => ?_⟩, fun k h => ?_⟩
  · match k, h with
    | 0, _ => rfl
    | 1, _ => rfl
    | 2, _ => rfl
    | 3, _ => rfl
    | 4, _ => rfl
    | 5, _ => rfl
    | k + 6, h => exact absurd h (by show ¬ k + 6 < 6; omega)
  · match k, h with
    | 0, _ => rfl
    | 1, _ => rfl
    | 2, _ => rfl
    | 3, _ => rfl
    | 4, _ => rfl
    | 5, _ => rfl
    | k + 6, h => exact absurd h (by show ¬ k + 6 < 6; omega)
theorem txt_0 {c : Nat → Nat} {l : List z_Ad} {xs : Nat → Int32} {t : Nat} (h : ¬ (1 ≤ t ∧ t ≤ 3)) : x_txt (z_sB c l xs) t [] := ⟨(mui_T (xs := xs) h).1 1, fun k h => absurd h (Nat.not_lt_zero k)⟩
theorem s0_A {c : Nat → Nat} {l : List z_Ad} {xs : Nat → Int32} : x_A (z_sB c l xs) := by
  refine ⟨rfl, rfl, rfl, rfl, rfl, rfl, rfl, rfl, rfl, rfl, rfl, rfl, rfl, rfl, rfl, rfl, rfl, fun i => rfl, fun i => rfl, fun i => rfl, fun i => rfl, fun i => rfl, fun i => rfl, fun i => rfl, fun i => rfl, fun i => rfl, fun i => rfl, fun i => rfl, fun i => rfl, fun k hk => ?_, fun k hk => ⟨?_, ?_⟩, fun k hk => ?_, txt_4.1, txt_4.2⟩
  · show (if 0 = 0 ∧ k < 5 then some (12, k) else none) = _
    rw [if_pos ⟨rfl, hk⟩]
  · show (if 0 = 0 ∧ k < 8 then some (4, k + 1) else none) = _
    rw [if_pos ⟨rfl, hk⟩]
  · show (if 0 = 0 ∧ 1 ≤ k + 1 ∧ k + 1 ≤ 8 then Int32.ofNat (k + 1) else 0) = _
    rw [if_pos ⟨rfl, by omega, by omega⟩]
  · show (if 0 = 0 ∧ k < 64 then some (6, k) else none) = _
    rw [if_pos ⟨rfl, hk⟩]
theorem s0_X {c : Nat → Nat} {l : List z_Ad} {xs : Nat → Int32} : w_X (z_sB c l xs) (z_sB c l xs) z_A0 := by
  refine ⟨⟨fun _ _ => ⟨rfl, rfl, rfl⟩, rfl, rfl⟩, s0_A, ?_, ?_, ?_, ?_, ⟨fun k hk => absurd hk (Nat.not_lt_zero k), fun k hk => absurd hk (Nat.not_lt_zero k)⟩, ⟨txt_0 (by omega), txt_h.1, fun i hi => txt_0 (by omega), fun i hi => ⟨txt_0 (by omega), txt_0 (by omega), txt_0 (by omega)⟩⟩, fun c h1 h8 => ⟨Nat.zero_le _, rfl, 0, by decide, rfl, fun k h => absurd h (Nat.not_lt_zero k)⟩, fun c h1 h8 k hk => rfl, ⟨fun s hs => ⟨?_, hs, fun r hr e => e⟩, ⟨fun t ht => ⟨0, Nat.zero_le _, (mui_T (xs := xs) (by omega)).1 1⟩, fun q hq => ⟨0, rfl⟩⟩, fun s hs => absurd hs (Nat.not_lt_zero s)⟩, ⟨fun s hs => ⟨?_, hs, fun r hr e => e⟩, fun s hs => absurd hs (Nat.not_lt_zero s)⟩, ⟨rfl, fun k hk => absurd hk (Nat.not_lt_zero k)⟩, fun P hP => (by cases hP), ⟨fun _ => rfl, fun s hs e => absurd e (by show ¬ 0 = s + 1; omega)⟩⟩
  · exact ⟨fun i => rfl, fun i => rfl, fun i => rfl, fun i => rfl, fun i => rfl, fun i => rfl, fun i => rfl, fun i => rfl, fun i => rfl, fun i => rfl, fun i => rfl, fun i => rfl, fun i => rfl, rfl, fun i => rfl, fun i => rfl, fun i => rfl, rfl⟩
  · exact ⟨rfl, rfl, rfl, rfl, rfl, rfl, rfl, fun i => rfl, fun i => rfl, fun i => rfl⟩
  · exact ⟨fun i => rfl, fun i => rfl, fun i => rfl, fun i => rfl, fun i => rfl⟩
  · exact ⟨fun i => rfl, fun i => rfl, fun i => rfl, fun i => rfl, fun i => rfl⟩
  · show (if 0 = 0 ∧ s < 16 then some (5, s) else none) = _
    rw [if_pos ⟨rfl, hs⟩]
    rfl
  · show (if 0 = 0 ∧ s < 32 then some (7, s) else none) = _
    rw [if_pos ⟨rfl, hs⟩]
    rfl
theorem s0_M {c : Nat → Nat} {l : List z_Ad} {xs : Nat → Int32} : w_M (z_sB c l xs) (z_sB c l xs) z_A0 := by
  refine ⟨⟨fun _ _ => ⟨rfl, rfl, rfl⟩, rfl, rfl⟩, ?_, ?_, ?_, ?_, ⟨rfl, fun k hk => absurd hk (Nat.not_lt_zero k), rfl, txt_h.2, fun i hi => ⟨rfl, fun k hk => absurd hk (Nat.not_lt_zero k)⟩, fun i hi => ⟨⟨rfl, fun k hk => absurd hk (Nat.not_lt_zero k)⟩, ⟨rfl, fun k hk => absurd hk (Nat.not_lt_zero k)⟩, ⟨rfl, fun k hk => absurd hk (Nat.not_lt_zero k)⟩⟩⟩, fun c h1 h8 => ⟨Nat.zero_le _, rfl, 0, by decide, rfl, fun k h => absurd h (Nat.not_lt_zero k)⟩, fun k hk => rfl, ⟨fun s hs => ⟨⟨0, Nat.zero_le _, rfl⟩, ⟨0, Nat.zero_le _, rfl⟩, ⟨0, Nat.zero_le _, rfl⟩⟩, fun s hs => absurd hs (Nat.not_lt_zero s)⟩, fun s hs => absurd hs (Nat.not_lt_zero s), ⟨rfl, fun k hk => absurd hk (Nat.not_lt_zero k)⟩, fun P hP => (by cases hP), ⟨fun _ => rfl, fun s hs e => absurd e (by show ¬ 0 = s + 1; omega)⟩⟩
  · refine ⟨rfl, rfl, rfl, rfl, rfl, rfl, rfl, rfl, rfl, rfl, rfl, rfl, rfl, rfl, rfl, rfl, rfl, rfl, rfl, rfl, rfl, rfl, rfl, rfl, rfl, rfl, rfl, rfl, rfl, rfl, rfl, rfl, rfl, rfl, rfl, rfl, rfl, rfl, rfl, rfl, rfl, rfl, rfl, rfl, rfl, rfl, rfl, rfl, rfl, rfl, rfl, rfl, rfl, rfl, rfl, rfl, rfl, rfl, rfl, rfl, rfl, rfl, fun k hk => rfl⟩
  · exact ⟨fun i => rfl, fun i => rfl, fun i => rfl, fun i => rfl, fun i => rfl, fun i => rfl, fun i => rfl, fun i => rfl, fun i => rfl, fun i => rfl, fun i => rfl, fun i => rfl, fun i => rfl, fun i => rfl, rfl, fun i => rfl, fun i => rfl, fun i => rfl, rfl⟩
  · exact ⟨rfl, rfl, rfl, rfl, rfl, rfl, rfl, fun i => rfl, fun i => rfl, fun i => rfl, fun i => rfl, fun i => rfl, fun i => rfl, fun i => rfl, fun i => rfl⟩
  · exact ⟨fun i => rfl, fun i => rfl, fun i => rfl, fun i => rfl, fun i => rfl⟩
theorem A0_N {v : Nat} (h : ¬ v = 17) (g : ¬ v = 18) (i : Nat) : vN z_A0 v i = 0 := by
  show (if v = 17 ∨ v = 18 then i else 0) = 0
  rw [if_neg (by omega)]
theorem mh_nm : z_nm z_mh ∧ z_let z_mh := by
  have key : ∀ x, x ∈ z_mh → nb x = x ∧ 0 ≤ x := by decide
  exact ⟨⟨by decide, fun x hx => (key x hx).1⟩, key⟩
theorem A0_V : z_VW 0 z_A0 := by
  refine ⟨⟨⟨⟨?_, fun p => ⟨fun e => absurd e (by show ¬ (0 : Int32) = 5; decide), fun e => absurd e (by show ¬ (0 : Int32) = 6; decide)⟩, ⟨fun i hi => absurd hi (Nat.not_lt_zero i), fun i _ => ⟨rfl, rfl, rfl, rfl⟩⟩⟩, ⟨fun p hp => ⟨⟨fun g => absurd rfl g, fun g => absurd rfl g, .inr ⟨rfl, rfl⟩⟩, fun g => absurd rfl g, .inl ⟨rfl, rfl, rfl⟩⟩, fun c _ _ => .inl ⟨rfl, rfl, .inl rfl⟩⟩, ⟨fun p => ?_, fun p g => absurd rfl g, fun p => by show (0 : Int32) ≤ 0; decide, fun p => ⟨fun g => ?_, fun i _ g => ?_⟩⟩⟩, ⟨fun p => ⟨Nat.zero_le _, Nat.zero_le _⟩, fun p hp => absurd hp (Nat.not_lt_zero p)⟩, ⟨fun s hs => absurd hs (Nat.not_lt_zero s), fun s hs => absurd hs (Nat.not_lt_zero s), fun s hs => absurd hs (Nat.not_lt_zero s), fun s hs => absurd hs (Nat.not_lt_zero s), fun c _ _ g => absurd g (by show ¬ 4 ≤ 0; decide), ⟨mh_nm.2, fun p => nil_let⟩, nil_let, fun r _ e => absurd e (by show ¬ 0 = r + 1; omega)⟩⟩, ⟨fun q _ => ⟨fun v _ => rfl, fun v h7 h10 => A0_N (by omega) (by omega) q⟩, fun i => Nat.zero_le _, fun a _ v _ => rfl⟩, rfl⟩
  · exact ⟨⟨Nat.zero_le _, Nat.zero_le _, Nat.zero_le _, Nat.zero_le _, Nat.zero_le _, Nat.zero_le _⟩, Nat.zero_le _, fun p => ⟨Nat.zero_le _, Nat.zero_le _⟩, fun c => ⟨Nat.zero_le _, by show 0 < 600; decide⟩, fun i => Nat.zero_le _, fun s => Nat.zero_le _, nil_nm, mh_nm.1, fun p => nil_nm, fun i => ⟨nil_nm, nil_nm, nil_nm⟩, fun s hs => absurd hs (Nat.not_lt_zero s), fun s hs => absurd hs (Nat.not_lt_zero s), fun k => by show nb 0 = 0; decide⟩
  · show ((0 : Int32) = 1 ∨ (0 : Int32) = 2 ∨ (0 : Int32) = 4) ↔ ((0 : Int32) = 5 ∨ (0 : Int32) = 6)
    decide
  · have g : (0 : Int32) = 2 ∨ (0 : Int32) = 4 := g
    exact absurd g (by decide)
  · have g : 0 = p + 1 := g
    omega
