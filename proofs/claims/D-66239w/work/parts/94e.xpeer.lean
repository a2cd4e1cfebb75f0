/-! PART 94e (src 94e.xpeer.src, printed by wip/gen/g94e.py): a peer is made: the component -/
set_option maxHeartbeats 800000
/-- the memory behind a new peer's making: peer n, its name text t -/
def z_np (σ : z_St) (n t : Nat) : z_St := wR (wR (nA (nO (nO σ 9 n) 1 t) 80741649 t) 1 0 t (some (80741649, t))) 9 1 n (some (1, t))
theorem row_ap {α : Type} (f : Nat → Nat → Nat → α) (a b : Nat) (r : Nat → α) (c d m : Nat) : z_row f a b r c d m = if c = a ∧ d = b then r m else f c d m := by
  unfold z_row
  split <;> rfl
theorem col_ap {α : Type} (f : Nat → Nat → Nat → α) (a n : Nat) (v : α) (c d m : Nat) : z_col f a n v c d m = if c = a ∧ m = n then v else f c d m := by
  unfold z_col
  by_cases h : c = a
  · rw [if_pos h]
    by_cases h2 : m = n
    · rw [if_pos ⟨h, h2⟩, h2]; exact if_pos rfl
    · rw [if_neg (fun g => h2 g.2)]; exact if_neg h2
  · rw [if_neg h, if_neg (fun g => h g.1)]
theorem np_I (σ : z_St) (n t c d m : Nat) : gI (z_np σ n t) c d m = if c = 80741649 ∧ d = t then 0 else if c = 1 ∧ m = t then 0 else if c = 9 ∧ m = n then 0 else gI σ c d m := by
  show z_row (z_col (z_col σ.2.2.1 9 n 0) 1 t 0) 80741649 t (fun _ => 0) c d m = _
  rw [row_ap, col_ap, col_ap]
  rfl
theorem np_J (σ : z_St) (n t c d m : Nat) (h1 : ¬ c = 1) (h9 : ¬ c = 9) (h8 : ¬ c = 80741649) : gJ (z_np σ n t) c d m = gJ σ c d m := by
  show z_row (z_col (z_col σ.2.2.2.1 9 n 0) 1 t 0) 80741649 t (fun _ => 0) c d m = _
  rw [row_ap, if_neg (fun g => h8 g.1), col_ap, if_neg (fun g => h1 g.1), col_ap, if_neg (fun g => h9 g.1)]
  rfl
theorem np_R (σ : z_St) (n t c d m : Nat) : gR (z_np σ n t) c d m = if c = 9 ∧ d = 1 ∧ m = n then some (1, t) else if c = 1 ∧ d = 0 ∧ m = t then some (80741649, t) else if c = 80741649 ∧ d = t then none else if c = 1 ∧ m = t then none else if c = 9 ∧ m = n then none else gR σ c d m := by
  show gR (wR (wR (nA (nO (nO σ 9 n) 1 t) 80741649 t) 1 0 t (some (80741649, t))) 9 1 n (some (1, t))) c d m = _
  rw [gR_wR]
  by_cases e0 : c = 9 ∧ d = 1 ∧ m = n
  · rw [if_pos e0, if_pos e0]
  rw [if_neg e0, if_neg e0, gR_wR]
  by_cases e9 : c = 1 ∧ d = 0 ∧ m = t
  · rw [if_pos e9, if_pos e9]
  rw [if_neg e9, if_neg e9]
  show z_row (z_col (z_col σ.2.2.2.2 9 n none) 1 t none) 80741649 t (fun _ => none) c d m = _
  rw [row_ap, col_ap, col_ap]
  rfl
theorem np_c (a : Nat) (h : z_isM a ∨ a = 14) : ¬ a = 1 ∧ ¬ a = 9 ∧ ¬ a = 80741649 := by
  unfold z_isM at h
  omega
/-- a text that is another's -/
theorem np_t {σ : z_St} {n t s : Nat} {l : List Int32} (hs : ¬ s = t) (h : x_txt σ s l) : x_txt (z_np σ n t) s l := by
  refine ⟨?_, fun k hk => ?_⟩
  · rw [np_I, if_neg (fun g => absurd g.1 (by decide)), if_neg (fun g => hs g.2), if_neg (fun g => absurd g.1 (by decide))]
    exact h.1
  · rw [np_I, if_neg (fun g => hs g.2), if_neg (fun g => absurd g.1 (by decide)), if_neg (fun g => absurd g.1 (by decide))]
    exact h.2 k hk
theorem np_o {σ : z_St} {n t : Nat} (c d m : Nat) (h1 : ¬ c = 1) (h9 : ¬ c = 9) (h8 : ¬ c = 80741649) : gI (z_np σ n t) c d m = gI σ c d m ∧ gR (z_np σ n t) c d m = gR σ c d m := by
  constructor
  · rw [np_I, if_neg (fun g => h8 g.1), if_neg (fun g => h1 g.1), if_neg (fun g => h9 g.1)]
  · rw [np_R, if_neg (fun g => h9 g.1), if_neg (fun g => h1 g.1), if_neg (fun g => h8 g.1), if_neg (fun g => h1 g.1), if_neg (fun g => h9 g.1)]
/-- fields of peers -/
theorem np_9 {σ : z_St} {n t : Nat} {A : w_A} (hz : ∀ v, v ≤ 11 → vI A v n = 0) (d v i : Nat) (hv : v ≤ 11) (h : gI σ 9 d i = vI A v i) : gI (z_np σ n t) 9 d i = vI A v i := by
  rw [np_I, if_neg (fun g => absurd g.1 (by decide)), if_neg (fun g => absurd g.1 (by decide))]
  by_cases e : i = n
  · rw [if_pos ⟨rfl, e⟩, e, hz v hv]
  · rw [if_neg (fun g => e g.2)]; exact h
theorem np_9N {σ : z_St} {n t : Nat} {A : w_A} (hz : ∀ v, 7 ≤ v → v ≤ 10 → vN A v n = 0) (d v i : Nat) (h7 : 7 ≤ v) (hv : v ≤ 10) (h : gI σ 9 d i = Int32.ofNat (vN A v i)) : gI (z_np σ n t) 9 d i = Int32.ofNat (vN A v i) := by
  rw [np_I, if_neg (fun g => absurd g.1 (by decide)), if_neg (fun g => absurd g.1 (by decide))]
  by_cases e : i = n
  · rw [if_pos ⟨rfl, e⟩, e, hz v h7 hv]
    rfl
  · rw [if_neg (fun g => e g.2)]; exact h
theorem np_9R {σ : z_St} {n t : Nat} {A : w_A} (hz : ∀ v, 7 ≤ v → v ≤ 10 → vN A v n = 0) (d v i : Nat) (hd : ¬ d = 1) (h7 : 7 ≤ v) (hv : v ≤ 10) (h : gR σ 9 d i = z_one 4 (vN A v i)) : gR (z_np σ n t) 9 d i = z_one 4 (vN A v i) := by
  rw [np_R, if_neg (fun g => hd g.2.1), if_neg (fun g => absurd g.1 (by decide)), if_neg (fun g => absurd g.1 (by decide)), if_neg (fun g => absurd g.1 (by decide))]
  by_cases e : i = n
  · rw [if_pos ⟨rfl, e⟩, e, hz v h7 hv]
    rfl
  · rw [if_neg (fun g => e g.2)]; exact h
theorem np_A {σ : z_St} {n t : Nat} (ht : t = 276 + n) (h : x_A σ) : x_A (z_np σ n t) := by
  unfold x_A at h
  refine ⟨((np_o _ _ _ (by decide) (by decide) (by decide)).2.trans h.1), ((np_o _ _ _ (by decide) (by decide) (by decide)).2.trans h.2.1), ((np_o _ _ _ (by decide) (by decide) (by decide)).2.trans h.2.2.1), ((np_o _ _ _ (by decide) (by decide) (by decide)).2.trans h.2.2.2.1), ((np_o _ _ _ (by decide) (by decide) (by decide)).2.trans h.2.2.2.2.1), ((np_o _ _ _ (by decide) (by decide) (by decide)).2.trans h.2.2.2.2.2.1), ((np_o _ _ _ (by decide) (by decide) (by decide)).2.trans h.2.2.2.2.2.2.1), ((np_o _ _ _ (by decide) (by decide) (by decide)).2.trans h.2.2.2.2.2.2.2.1), ((np_o _ _ _ (by decide) (by decide) (by decide)).2.trans h.2.2.2.2.2.2.2.2.1), ((np_o _ _ _ (by decide) (by decide) (by decide)).2.trans h.2.2.2.2.2.2.2.2.2.1), ((np_o _ _ _ (by decide) (by decide) (by decide)).2.trans h.2.2.2.2.2.2.2.2.2.2.1), ((np_o _ _ _ (by decide) (by decide) (by decide)).2.trans h.2.2.2.2.2.2.2.2.2.2.2.1), ((np_o _ _ _ (by decide) (by decide) (by decide)).2.trans h.2.2.2.2.2.2.2.2.2.2.2.2.1), ((np_o _ _ _ (by decide) (by decide) (by decide)).2.trans h.2.2.2.2.2.2.2.2.2.2.2.2.2.1), ((np_o _ _ _ (by decide) (by decide) (by decide)).2.trans h.2.2.2.2.2.2.2.2.2.2.2.2.2.2.1), ((np_o _ _ _ (by decide) (by decide) (by decide)).2.trans h.2.2.2.2.2.2.2.2.2.2.2.2.2.2.2.1), ((np_o _ _ _ (by decide) (by decide) (by decide)).2.trans h.2.2.2.2.2.2.2.2.2.2.2.2.2.2.2.2.1), (fun i => ?_), (fun i => (np_o _ _ _ (by decide) (by decide) (by decide)).2.trans (h.2.2.2.2.2.2.2.2.2.2.2.2.2.2.2.2.2.2.1 i)), (fun i => (np_o _ _ _ (by decide) (by decide) (by decide)).2.trans (h.2.2.2.2.2.2.2.2.2.2.2.2.2.2.2.2.2.2.2.1 i)), (fun i => (np_o _ _ _ (by decide) (by decide) (by decide)).2.trans (h.2.2.2.2.2.2.2.2.2.2.2.2.2.2.2.2.2.2.2.2.1 i)), (fun i => (np_o _ _ _ (by decide) (by decide) (by decide)).2.trans (h.2.2.2.2.2.2.2.2.2.2.2.2.2.2.2.2.2.2.2.2.2.1 i)), (fun i => (np_o _ _ _ (by decide) (by decide) (by decide)).2.trans (h.2.2.2.2.2.2.2.2.2.2.2.2.2.2.2.2.2.2.2.2.2.2.1 i)), (fun i => (np_o _ _ _ (by decide) (by decide) (by decide)).2.trans (h.2.2.2.2.2.2.2.2.2.2.2.2.2.2.2.2.2.2.2.2.2.2.2.1 i)), (fun i => (np_o _ _ _ (by decide) (by decide) (by decide)).2.trans (h.2.2.2.2.2.2.2.2.2.2.2.2.2.2.2.2.2.2.2.2.2.2.2.2.1 i)), (fun i => (np_o _ _ _ (by decide) (by decide) (by decide)).2.trans (h.2.2.2.2.2.2.2.2.2.2.2.2.2.2.2.2.2.2.2.2.2.2.2.2.2.1 i)), (fun i => (np_o _ _ _ (by decide) (by decide) (by decide)).2.trans (h.2.2.2.2.2.2.2.2.2.2.2.2.2.2.2.2.2.2.2.2.2.2.2.2.2.2.1 i)), (fun i => (np_o _ _ _ (by decide) (by decide) (by decide)).2.trans (h.2.2.2.2.2.2.2.2.2.2.2.2.2.2.2.2.2.2.2.2.2.2.2.2.2.2.2.1 i)), (fun i => ?_), (fun k hk => (np_o _ _ _ (by decide) (by decide) (by decide)).2.trans (h.2.2.2.2.2.2.2.2.2.2.2.2.2.2.2.2.2.2.2.2.2.2.2.2.2.2.2.2.2.1 k hk)), (fun k hk => ⟨(np_o _ _ _ (by decide) (by decide) (by decide)).2.trans (h.2.2.2.2.2.2.2.2.2.2.2.2.2.2.2.2.2.2.2.2.2.2.2.2.2.2.2.2.2.2.1 k hk).1, (np_o _ _ _ (by decide) (by decide) (by decide)).1.trans (h.2.2.2.2.2.2.2.2.2.2.2.2.2.2.2.2.2.2.2.2.2.2.2.2.2.2.2.2.2.2.1 k hk).2⟩), (fun k hk => (np_o _ _ _ (by decide) (by decide) (by decide)).2.trans (h.2.2.2.2.2.2.2.2.2.2.2.2.2.2.2.2.2.2.2.2.2.2.2.2.2.2.2.2.2.2.2.1 k hk)), np_t (by omega) h.2.2.2.2.2.2.2.2.2.2.2.2.2.2.2.2.2.2.2.2.2.2.2.2.2.2.2.2.2.2.2.2.1, np_t (by omega) h.2.2.2.2.2.2.2.2.2.2.2.2.2.2.2.2.2.2.2.2.2.2.2.2.2.2.2.2.2.2.2.2.2⟩
  · rw [np_R, if_neg (fun g => absurd g.1 (by decide))]
    by_cases e : i = t
    · rw [if_pos ⟨rfl, rfl, e⟩, e]
    · rw [if_neg (fun g => e g.2.2), if_neg (fun g => absurd g.1 (by decide)), if_neg (fun g => e g.2), if_neg (fun g => absurd g.1 (by decide))]
      exact h.2.2.2.2.2.2.2.2.2.2.2.2.2.2.2.2.2.1 i
  · rw [np_R]
    by_cases e : i = n
    · rw [if_pos ⟨rfl, rfl, e⟩, e, ht]
    · rw [if_neg (fun g => e g.2.2), if_neg (fun g => absurd g.1 (by decide)), if_neg (fun g => absurd g.1 (by decide)), if_neg (fun g => absurd g.1 (by decide)), if_neg (fun g => e g.2)]
      exact h.2.2.2.2.2.2.2.2.2.2.2.2.2.2.2.2.2.2.2.2.2.2.2.2.2.2.2.2.1 i
theorem X_new {T σ : z_St} {A : w_A} (h : w_X T σ A) {n t : Nat} (ht : t = 276 + n) (hnP : vN A 0 0 ≤ n) (hl : vN A 2 0 ≤ 16) (hkp : vN A 4 0 ≤ 32) (hz1 : ∀ v, v ≤ 11 → vI A v n = 0) (hz2 : ∀ v, 7 ≤ v → v ≤ 10 → vN A v n = 0) : w_X (cn (z_np σ n t), al (z_np σ n t), T.2.2) (z_np σ n t) (sL A 2 n []) := by
  obtain ⟨hT, hA, hB, hC, hD, hE, hF, hG, hH, hI, hJ, hK, hL, hM, hN⟩ := h
  obtain ⟨g1, g2, g3, g4⟩ := hG
  have o := fun c d m h1 h9 h8 => @np_o σ n t c d m h1 h9 h8
  refine ⟨⟨fun c hc => ?_, rfl, rfl⟩, np_A ht hA, ?_, ?_, ?_, ?_, ⟨fun k hk => ?_, fun k hk => (o _ _ _ (by decide) (by decide) (by decide)).2.trans (hF.2 k hk)⟩, ⟨np_t (by omega) g1, np_t (by omega) g2, fun q hq => ?_, fun q hq => ?_⟩, ?_, fun c h1 h8 k hk => (o _ _ _ (by decide) (by decide) (by decide)).1.trans (hI c h1 h8 k hk), ⟨fun s hs => ⟨(o _ _ _ (by decide) (by decide) (by decide)).2.trans (hJ.1 s hs).1, (hJ.1 s hs).2⟩, ⟨fun s hs => ?_, fun q hq => ?_⟩, fun r hr => ?_⟩, ⟨fun s hs => ⟨(o _ _ _ (by decide) (by decide) (by decide)).2.trans (hK.1 s hs).1, (hK.1 s hs).2⟩, fun r hr => ?_⟩, ⟨(o _ _ _ (by decide) (by decide) (by decide)).1.trans hL.1, fun k hk hk2 => (o _ _ _ (by decide) (by decide) (by decide)).1.trans (hL.2 k hk hk2)⟩, fun P hP => ?_, ⟨fun g => (o _ _ _ (by decide) (by decide) (by decide)).2.trans (hN.1 g), fun s hs g => (o _ _ _ (by decide) (by decide) (by decide)).2.trans (hN.2 s hs g)⟩⟩
  · obtain ⟨e1, e9, e8⟩ := np_c c hc
    obtain ⟨q1, q2, q3⟩ := hT.1 c hc
    refine ⟨?_, ?_, ?_⟩ <;> funext d m
    · rw [(o c d m e1 e9 e8).1, q1]; rfl
    · rw [np_J σ n t c d m e1 e9 e8, q2]; rfl
    · rw [(o c d m e1 e9 e8).2, q3]; rfl
  · unfold x_B at hB ⊢
    exact ⟨(fun i => np_9 hz1 3 0 i (by decide) (hB.1 i)), (fun i => np_9 hz1 10 1 i (by decide) (hB.2.1 i)), (fun i => np_9 hz1 11 2 i (by decide) (hB.2.2.1 i)), (fun i => np_9 hz1 13 3 i (by decide) (hB.2.2.2.1 i)), (fun i => np_9 hz1 14 4 i (by decide) (hB.2.2.2.2.1 i)), (fun i => np_9 hz1 15 5 i (by decide) (hB.2.2.2.2.2.1 i)), (fun i => np_9 hz1 16 6 i (by decide) (hB.2.2.2.2.2.2.1 i)), (fun i => np_9 hz1 17 7 i (by decide) (hB.2.2.2.2.2.2.2.1 i)), (fun i => np_9 hz1 7 8 i (by decide) (hB.2.2.2.2.2.2.2.2.1 i)), (fun i => np_9 hz1 8 9 i (by decide) (hB.2.2.2.2.2.2.2.2.2.1 i)), (fun i => np_9 hz1 9 10 i (by decide) (hB.2.2.2.2.2.2.2.2.2.2.1 i)), (fun i => np_9 hz1 2 11 i (by decide) (hB.2.2.2.2.2.2.2.2.2.2.2.1 i)), (fun i => (o _ _ _ (by decide) (by decide) (by decide)).1.trans (hB.2.2.2.2.2.2.2.2.2.2.2.2.1 i)), ((o _ _ _ (by decide) (by decide) (by decide)).1.trans hB.2.2.2.2.2.2.2.2.2.2.2.2.2.1), (fun i => (o _ _ _ (by decide) (by decide) (by decide)).1.trans (hB.2.2.2.2.2.2.2.2.2.2.2.2.2.2.1 i)), (fun i => (o _ _ _ (by decide) (by decide) (by decide)).1.trans (hB.2.2.2.2.2.2.2.2.2.2.2.2.2.2.2.1 i)), (fun i => (o _ _ _ (by decide) (by decide) (by decide)).1.trans (hB.2.2.2.2.2.2.2.2.2.2.2.2.2.2.2.2.1 i)), ((o _ _ _ (by decide) (by decide) (by decide)).1.trans hB.2.2.2.2.2.2.2.2.2.2.2.2.2.2.2.2.2)⟩
  · unfold x_C at hC ⊢
    exact ⟨((o _ _ _ (by decide) (by decide) (by decide)).1.trans hC.1), ((o _ _ _ (by decide) (by decide) (by decide)).1.trans hC.2.1), ((o _ _ _ (by decide) (by decide) (by decide)).1.trans hC.2.2.1), ((o _ _ _ (by decide) (by decide) (by decide)).1.trans hC.2.2.2.1), ((o _ _ _ (by decide) (by decide) (by decide)).1.trans hC.2.2.2.2.1), ((o _ _ _ (by decide) (by decide) (by decide)).1.trans hC.2.2.2.2.2.1), ((o _ _ _ (by decide) (by decide) (by decide)).1.trans hC.2.2.2.2.2.2.1), (fun i => np_9N hz2 4 7 i (by decide) (by decide) (hC.2.2.2.2.2.2.2.1 i)), (fun i => np_9N hz2 12 8 i (by decide) (by decide) (hC.2.2.2.2.2.2.2.2.1 i)), (fun i => (o _ _ _ (by decide) (by decide) (by decide)).1.trans (hC.2.2.2.2.2.2.2.2.2 i))⟩
  · unfold x_D at hD ⊢
    exact ⟨(fun i => (np_J _ _ _ _ _ _ (by decide) (by decide) (by decide)).trans (hD.1 i)), (fun i => (np_J _ _ _ _ _ _ (by decide) (by decide) (by decide)).trans (hD.2.1 i)), (fun i => (np_J _ _ _ _ _ _ (by decide) (by decide) (by decide)).trans (hD.2.2.1 i)), (fun i => (np_J _ _ _ _ _ _ (by decide) (by decide) (by decide)).trans (hD.2.2.2.1 i)), (fun i => (np_J _ _ _ _ _ _ (by decide) (by decide) (by decide)).trans (hD.2.2.2.2 i))⟩
  · unfold x_E at hE ⊢
    exact ⟨(fun i => np_9R hz2 5 9 i (by decide) (by decide) (by decide) (hE.1 i)), (fun i => np_9R hz2 6 10 i (by decide) (by decide) (by decide) (hE.2.1 i)), (fun i => (o _ _ _ (by decide) (by decide) (by decide)).2.trans (hE.2.2.1 i)), (fun i => (o _ _ _ (by decide) (by decide) (by decide)).2.trans (hE.2.2.2.1 i)), (fun i => (o _ _ _ (by decide) (by decide) (by decide)).1.trans (hE.2.2.2.2 i))⟩
  · have hk : k < vN A 0 0 := hk
    obtain ⟨q1, q2⟩ := hF.1 k hk
    refine ⟨(o _ _ _ (by decide) (by decide) (by decide)).2.trans q1, ?_⟩
    rw [np_I, if_neg (fun g => absurd g.1 (by decide)), if_neg (fun g => absurd g.1 (by decide)), if_neg (fun g => by have := g.2; omega)]
    exact q2
  · show x_txt (z_np σ n t) (276 + q) (vL (sL A 2 n []) 2 q)
    rw [vL_sL]
    by_cases e : q = n
    · rw [if_pos ⟨rfl, e⟩, e, ← ht]
      refine ⟨?_, fun k hk => absurd hk (Nat.not_lt_zero k)⟩
      rw [np_I, if_neg (fun g => absurd g.1 (by decide)), if_pos ⟨rfl, rfl⟩]
      rfl
    · rw [if_neg (fun g => e g.2)]
      exact np_t (by omega) (g3 q hq)
  · obtain ⟨q1, q2, q3⟩ := g4 q hq
    exact ⟨np_t (by omega) q1, np_t (by omega) q2, np_t (by omega) q3⟩
  · intro c h1 h8
    obtain ⟨a1, a2, f, f1, f2, f3⟩ := hH c h1 h8
    exact ⟨a1, (o _ _ _ (by decide) (by decide) (by decide)).1.trans a2, f, f1, (o _ _ _ (by decide) (by decide) (by decide)).1.trans f2, fun k hk => (o _ _ _ (by decide) (by decide) (by decide)).1.trans (f3 k hk)⟩
  · obtain ⟨m, hm, g⟩ := hJ.2.1.1 s hs
    refine ⟨m, hm, ?_⟩
    rw [np_I, if_neg (fun g => absurd g.1 (by decide)), if_neg (fun g => by have := g.2; omega), if_neg (fun g => absurd g.1 (by decide))]
    exact g
  · obtain ⟨a, g⟩ := hJ.2.1.2 q hq
    exact ⟨a, (o _ _ _ (by decide) (by decide) (by decide)).2.trans g⟩
  · have hr' : r < vN A 2 0 := hr
    obtain ⟨h1, h2, h3, h4, h5, h6, h7, h8⟩ := hJ.2.2 r hr'
    have ho : vN (sL A 2 n []) 17 r < 16 := (hJ.1 r (by omega)).2.1
    exact ⟨(np_J _ _ _ _ _ _ (by decide) (by decide) (by decide)).trans h1, (np_J _ _ _ _ _ _ (by decide) (by decide) (by decide)).trans h2, (o _ _ _ (by decide) (by decide) (by decide)).1.trans h3, (o _ _ _ (by decide) (by decide) (by decide)).1.trans h4, (o _ _ _ (by decide) (by decide) (by decide)).2.trans h5, np_t (by omega) h6, np_t (by omega) h7, np_t (by omega) h8⟩
  · have hr' : r < vN A 4 0 := hr
    obtain ⟨k1, k2, k3, k4, k5⟩ := hK.2 r hr'
    have ho : vN (sL A 2 n []) 18 r < 32 := (hK.1 r (by omega)).2.1
    exact ⟨(o _ _ _ (by decide) (by decide) (by decide)).1.trans k1, (o _ _ _ (by decide) (by decide) (by decide)).1.trans k2, np_t (by omega) k3, (o _ _ _ (by decide) (by decide) (by decide)).1.trans k4, fun j hj hj2 => (o _ _ _ (by decide) (by decide) (by decide)).1.trans (k5 j hj hj2)⟩
  · obtain ⟨m1, m2, m3, m4, m5, m6, m7, m8, m9, m10⟩ := hM P hP
    exact ⟨(o _ _ _ (by decide) (by decide) (by decide)).2.trans m1, (o _ _ _ (by decide) (by decide) (by decide)).1.trans m2, (o _ _ _ (by decide) (by decide) (by decide)).1.trans m3, (o _ _ _ (by decide) (by decide) (by decide)).1.trans m4, (o _ _ _ (by decide) (by decide) (by decide)).1.trans m5, (o _ _ _ (by decide) (by decide) (by decide)).1.trans m6, (o _ _ _ (by decide) (by decide) (by decide)).1.trans m7, (o _ _ _ (by decide) (by decide) (by decide)).1.trans m8, (o _ _ _ (by decide) (by decide) (by decide)).1.trans m9, fun k hk => ⟨(o _ _ _ (by decide) (by decide) (by decide)).1.trans (m10 k hk).1, (o _ _ _ (by decide) (by decide) (by decide)).1.trans (m10 k hk).2.1, (o _ _ _ (by decide) (by decide) (by decide)).1.trans (m10 k hk).2.2⟩⟩
theorem X_num {T σ : z_St} {A : w_A} (h : w_X T σ A) {n : Nat} (hn : vN A 0 0 ≤ n) (x : Int32) : w_X T (wI σ 9 0 n x) A := by
  obtain ⟨hT, hA, hB, hC, hD, hE, hF, hG, hH, hI, hJ, hK, hL, hM, hN⟩ := h
  refine ⟨x_T_wI hT (z_isM_dec _ rfl), hA, hB, hC, hD, hE, ⟨fun k hk => ⟨(hF.1 k hk).1, ?_⟩, hF.2⟩, hG, hH, hI, hJ, hK, hL, hM, hN⟩
  rw [gI_wI, if_neg (fun g => by have := g.2.2; omega)]
  exact (hF.1 k hk).2
theorem X_PEERS {T σ : z_St} {A : w_A} (h : w_X T σ A) {n : Nat} (hn : vN A 0 0 = n) (h0 : gI σ 9 0 n = Int32.ofNat (n + 1)) : w_X T (wR (wI σ 0 8 0 (Int32.ofNat (n + 1))) 2097301 0 n (some (9, n))) (sN A 0 0 (n + 1)) := by
  obtain ⟨hT, hA, hB, hC, hD, hE, hF, hG, hH, hI, hJ, hK, hL, hM, hN⟩ := h
  refine ⟨x_T_wR (x_T_wI hT (z_isM_dec _ rfl)) (z_isM_dec _ rfl), hA, hB, ⟨?_, hC.2⟩, hD, hE, ⟨fun k hk => ?_, hF.2⟩, hG, hH, hI, hJ, hK, hL, hM, hN⟩
  · show gI (wI σ 0 8 0 (Int32.ofNat (n + 1))) 0 8 0 = _
    rw [gI_wI, if_pos ⟨rfl, rfl, rfl⟩]
    rfl
  · have hk : k < n + 1 := hk
    show gR (wR (wI σ 0 8 0 (Int32.ofNat (n + 1))) 2097301 0 n (some (9, n))) 2097301 0 k = _ ∧ gI σ 9 0 k = _
    rw [gR_wR]
    by_cases e : k = n
    · rw [if_pos ⟨rfl, rfl, e⟩, e]
      exact ⟨rfl, h0⟩
    · rw [if_neg (fun g => e g.2.2)]
      exact hF.1 k (by omega)
theorem b2i_or (p q : Prop) [Decidable p] [Decidable q] : b2i p ||| b2i q = b2i (p ∨ q) := by
  unfold b2i
  by_cases h1 : p
  · by_cases h2 : q
    · rw [if_pos h1, if_pos h2, if_pos (.inl h1)]; rfl
    · rw [if_pos h1, if_neg h2, if_pos (.inl h1)]; rfl
  · by_cases h2 : q
    · rw [if_neg h1, if_pos h2, if_pos (.inr h2)]; rfl
    · rw [if_neg h1, if_neg h2, if_neg (fun g => g.elim h1 h2)]; rfl
/-- texts compared -/
theorem xl_same {σ : z_St} {s t : Nat} {l m : List Int32} (hs : x_txt σ s l) (ht : x_txt σ t m) (hl : l.length ≤ 40) (hlm : l.length = m.length) (hp : ∀ i, gR σ 1 0 i = some (80741649, i)) {d : Nat} {Q : z_St → Option z_V → Prop} (k : Q σ (some (.inl (b2i (l = m))))) : ∀ (r i : Nat), i + r = l.length → (l = m ↔ l.drop i = m.drop i) →
    wp (E xP243 (zD d) 4 [some (.inr (.inr (some (1, s)))), some (.inr (.inr (some (1, t)))), some (.inl 1), some (.inl (Int32.ofNat i))] [] σ) Q
  | 0, i, hi, he => by
    refine wp_eq (e243_4 ..) ?_
    rw [hs.1]
    refine wp_if (fun h => ?_) (fun h => ?_) <;> rw [io_le (by omega) (by omega)] at h
    · have e : l = m := he.mpr (by rw [List.drop_of_length_le (by omega), List.drop_of_length_le (by omega)])
      rw [b2i_t e] at k
      exact wp_eq (e243_10 ..) (wp_gd (.inr rfl) (wp_ret k))
    · omega
  | r + 1, i, hi, he => by
    have hil : i < l.length := by omega
    have him : i < m.length := by omega
    refine wp_eq (e243_4 ..) ?_
    rw [hs.1]
    refine wp_if (fun h => ?_) (fun h => ?_) <;> rw [io_le (by omega) (by omega)] at h
    · omega
    refine wp_eq (e243_5 ..) (wp_if (fun g => absurd g (by decide)) (fun _ => ?_))
    refine wp_eq (e243_6 ..) (wp_dr (hp s) (wp_gd aty_80741649 (wp_gd ?_ (wp_dr rfl (wp_gd rfl (wp_dr (hp t) (wp_gd aty_80741649 (wp_gd ?_ ?_))))))))
    · show zin (Int32.ofNat i) (aLen 80741649); rw [alen_80741649]; exact zin_io (by omega) (by decide)
    · show zin (Int32.ofNat i) (aLen 80741649); rw [alen_80741649]; exact zin_io (by omega) (by decide)
    dsimp only
    rw [io_nat (by omega), hs.2 i hil, ht.2 i him]
    rw [List.drop_eq_getElem_cons hil, List.drop_eq_getElem_cons him] at he
    refine wp_if (fun g => ?_) (fun g => ?_)
    · refine wp_eq (e243_7 ..) (wp_eq (e243_9 ..) ?_)
      rw [io_add_l]
      refine xl_same hs ht hl hlm hp k r (i + 1) (by omega) (he.trans ?_)
      rw [g]
      exact ⟨fun q => (List.cons.inj q).2, fun q => by rw [q]⟩
    · have ne : ¬ l = m := fun q => g (List.cons.inj (he.mp q)).1
      rw [b2i_f ne] at k
      refine wp_eq (e243_8 ..) (wp_eq (e243_9 ..) ?_)
      rw [io_add_l]
      refine wp_eq (e243_4 ..) ?_
      rw [hs.1]
      refine wp_if (fun _ => wp_eq (e243_10 ..) (wp_gd (.inl rfl) (wp_ret k))) (fun _ => ?_)
      exact wp_eq (e243_5 ..) (wp_if (fun _ => wp_eq (e243_10 ..) (wp_gd (.inl rfl) (wp_ret k))) (fun g => absurd rfl g))
theorem xc_same {σ : z_St} {s t : Nat} {l m : List Int32} (hs : x_txt σ s l) (ht : x_txt σ t m) (hl : l.length ≤ 40) (hm : m.length ≤ 40) (hp : ∀ i, gR σ 1 0 i = some (80741649, i)) {d : Nat} {Q : z_St → Option z_V → Prop} (k : Q σ (some (.inl (b2i (l = m))))) : wp (zD (d + 1) 243 [.inr (.inr (some (1, s))), .inr (.inr (some (1, t)))] σ) Q := by
  refine wp_eq (c243 ..) (wp_eq (e243_0 ..) (wp_dr rfl (wp_gd rfl ?_)))
  dsimp only
  rw [hs.1, ht.1]
  refine wp_if (fun h => ?_) (fun h => ?_) <;> rw [io_inj (by omega) (by omega)] at h
  · exact wp_eq (e243_1 ..) (wp_eq (e243_3 ..) (xl_same hs ht hl h hp k l.length 0 (Nat.zero_add _) (by rw [List.drop_zero, List.drop_zero])))
  · have ne : ¬ l = m := fun q => h (by rw [q])
    rw [b2i_f ne] at k
    refine wp_eq (e243_2 ..) (wp_eq (e243_3 ..) (wp_eq (e243_4 ..) (wp_if (fun _ => wp_eq (e243_10 ..) (wp_gd (.inl rfl) (wp_ret k))) (fun _ => ?_))))
    exact wp_eq (e243_5 ..) (wp_if (fun _ => wp_eq (e243_10 ..) (wp_gd (.inl rfl) (wp_ret k))) (fun g => absurd rfl g))
def fn_kn (A : w_A) (n : Nat) : Prop := vL A 0 0 = vL A 1 0 ∨ ∃ p, p < n ∧ vL A 0 0 = vL A 2 p
noncomputable def fn_knD (A : w_A) (n : Nat) : Decidable (fn_kn A n) := Classical.propDecidable _
noncomputable def fn_cPeer (A : w_A) (x : Int32) : w_A × Int32 := if (vL A 0 0).length = 0 then (A, -2)
  else if @decide (fn_kn A (vN A 0 0)) (fn_knD _ _) = true then (A, -3)
  else if vN A 0 0 = 4 then (A, -4)
  else (sN (sL (sL (sN (sI A 11 (vN A 0 0) x) 8 (vN A 0 0) (vN A 5 0 + 30)) 2 (vN A 0 0) (vL A 0 0)) 0 0 []) 0 0 (vN A 0 0 + 1), Int32.ofNat (vN A 0 0 + 1))
theorem kn_s {A : w_A} {n : Nat} : fn_kn A (n + 1) ↔ (fn_kn A n ∨ vL A 0 0 = vL A 2 n) := by
  unfold fn_kn
  constructor
  · rintro (h | ⟨p, h1, h2⟩)
    · exact .inl (.inl h)
    · by_cases e : p = n
      · rw [e] at h2; exact .inr h2
      · exact .inl (.inr ⟨p, by omega, h2⟩)
  · rintro ((h | ⟨p, h1, h2⟩) | h)
    · exact .inl h
    · exact .inr ⟨p, by omega, h2⟩
    · exact .inr ⟨n, by omega, h⟩
theorem xl_peer {T σ : z_St} {A : w_A} (hX : w_X T σ A) {n : Nat} (hB : z_B n A) {d : Nat} {x : Int32} {Q : z_St → Option z_V → Prop} (k : ∀ y : Int32, (y = 0 ↔ ¬ fn_kn A (vN A 0 0)) → wp (E xP5 (zD (d + 2)) 5 [some (.inr (.inr (some (0, 0)))), some (.inl x), some (.inl y), none] [] σ) Q) : ∀ (r p : Nat) (y : Int32), p + r = vN A 0 0 → (y = 0 ∧ ¬ fn_kn A p ∨ y = 1 ∧ fn_kn A p) →
    wp (E xP5 (zD (d + 2)) 3 [some (.inr (.inr (some (0, 0)))), some (.inl x), some (.inl y), some (.inl (Int32.ofNat p))] [] σ) Q
  | 0, p, y, hp, hy => by
    have hb := hB.1
    refine wp_eq (e5_3 ..) ?_
    rw [rx_PEERS hX]
    refine wp_if (fun h => ?_) (fun h => ?_) <;> rw [io_le (by omega) (by omega)] at h
    · have : p = vN A 0 0 := by omega
      rw [this] at hy
      refine k y ?_
      rcases hy with ⟨h1, h2⟩ | ⟨h1, h2⟩
      · exact ⟨fun _ => h2, fun _ => h1⟩
      · exact ⟨fun g => by rw [h1] at g; exact absurd g (by decide), fun g => absurd h2 g⟩
    · omega
  | r + 1, p, y, hp, hy => by
    have hb := hB.1
    have hp4 : p < 4 := by omega
    refine wp_eq (e5_3 ..) ?_
    rw [rx_PEERS hX]
    refine wp_if (fun h => ?_) (fun h => ?_) <;> rw [io_le (by omega) (by omega)] at h
    · omega
    have hF := (rx_F hX).1 p (by omega)
    refine wp_eq (e5_4 ..) (wp_dr (rx_p0_7 hX) (wp_gd (by rw [aty_2097301]; decide) (wp_gd (by rw [alen_2097301]; exact zin_io (by omega) (by decide)) ?_)))
    dsimp only
    rw [io_nat (by omega)]
    refine wp_dr hF.1 (wp_gd rfl (wp_dr (rx_p0_0 hX) (wp_gd rfl ?_)))
    dsimp only
    rw [rx_p9_1 hX p]
    refine wp_cr (xc_same (d := d + 1) (rx_AT hX) (rx_PNAME hX p hp4) hB.2.2.2.2.2.2.1.1 (hB.2.2.2.2.2.2.2.2.1 p).1 (rx_p1_0 hX) ⟨_, rfl, wp_asI0 ?_⟩)
    rw [io_add_l]
    refine xl_peer hX hB k r (p + 1) _ (by omega) ?_
    rcases hy with ⟨h1, h2⟩ | ⟨h1, h2⟩
    · by_cases e : vL A 0 0 = vL A 2 p
      · right
        refine ⟨?_, kn_s.mpr (.inr e)⟩
        rw [h1, b2i_t e]; rfl
      · left
        refine ⟨?_, fun g => (kn_s.mp g).elim h2 e⟩
        rw [h1, b2i_f e]; rfl
    · right
      refine ⟨?_, kn_s.mpr (.inl h2)⟩
      rw [h1]
      by_cases e : vL A 0 0 = vL A 2 p
      · rw [b2i_t e]; rfl
      · rw [b2i_f e]; rfl
theorem xc_peer {T σ : z_St} {A : w_A} (hX : w_X T σ A) {n : Nat} (hB : z_B n A) {L : Nat} (hc : z_ct L A T) (hz1 : ∀ v, v ≤ 11 → vI A v (vN A 0 0) = 0) (hz2 : ∀ v, 7 ≤ v → v ≤ 10 → vN A v (vN A 0 0) = 0) {d : Nat} {x : Int32} (hx : x = 0 ∨ x = 1) {Q : z_St → Option z_V → Prop} (k : ∀ T' σ v, T'.2.2 = T.2.2 → z_ct L (fn_cPeer A x).1 T' → w_X T' σ (fn_cPeer A x).1 → v = some (.inl (fn_cPeer A x).2) → Q σ v) : wp (zD (d + 3) 5 [.inr (.inr (some (0, 0))), .inl x] σ) Q := by
  have hb := hB.1
  have h40 := hB.2.2.2.2.2.2.1.1
  unfold fn_cPeer at k
  have ht := rx_AT hX
  refine wp_eq (c5 ..) (wp_eq (e5_0 ..) (wp_dr (rx_p0_0 hX) (wp_gd rfl ?_)))
  dsimp only
  rw [ht.1]
  refine wp_if (fun h => ?_) (fun h => ?_) <;> rw [show (0 : Int32) = Int32.ofNat 0 from rfl, io_inj (by omega) (by omega)] at h
  · rw [if_pos h] at k
    exact wp_eq (e5_1 ..) (wp_ret (k T _ _ rfl hc hX rfl))
  rw [if_neg h] at k
  refine wp_eq (e5_2 ..) (wp_dr (rx_p0_0 hX) (wp_gd rfl ?_))
  rw [rx_p0_1 hX]
  refine wp_cr (xc_same (d := d + 1) ht (rx_HOST hX) h40 hB.2.2.2.2.2.2.2.1.1 (rx_p1_0 hX) ⟨_, rfl, wp_asI0 ?_⟩)
  refine xl_peer hX hB (fun y hy => ?_) (vN A 0 0) 0 _ (Nat.zero_add _) ?_
  rotate_left
  · by_cases e : vL A 0 0 = vL A 1 0
    · exact .inr ⟨b2i_t e, .inl e⟩
    · exact .inl ⟨b2i_f e, fun g => g.elim e (fun ⟨p, h1, _⟩ => absurd h1 (Nat.not_lt_zero p))⟩
  refine wp_eq (e5_5 ..) (wp_if (fun h => ?_) (fun h => ?_))
  rotate_left
  · have hk : fn_kn A (vN A 0 0) := Classical.byContradiction fun g => h (hy.mpr g)
    rw [if_pos (@decide_eq_true _ (fn_knD _ _) hk)] at k
    exact wp_eq (e5_6 ..) (wp_ret (k T _ _ rfl hc hX rfl))
  have hk := hy.mp h
  rw [if_neg (fun g => hk (@of_decide_eq_true _ (fn_knD _ _) g))] at k
  refine wp_eq (e5_7 ..) ?_
  rw [rx_PEERS hX]
  refine wp_if (fun h => ?_) (fun h => ?_) <;> rw [show (4 : Int32) = Int32.ofNat 4 from rfl, io_inj (by omega) (by omega)] at h
  · rw [if_pos h] at k
    exact wp_eq (e5_8 ..) (wp_ret (k T _ _ rfl hc hX rfl))
  rw [if_neg h] at k
  obtain ⟨m, hm⟩ : ∃ m, m = vN A 0 0 := ⟨_, rfl⟩
  obtain ⟨c0, c1, c2, c3, c4, c5, c6⟩ := hc
  rw [← hm] at k c1 c3 c4 c5 c6 hz1 hz2
  have hnow := hb.2.2.2.2.2
  have hcn9 : cn σ 9 + z_off 9 = m := by rw [hX.1.2.1, c1]; rfl
  have hX1 := X_new hX (n := m) (t := 276 + m) rfl (by omega) hb.2.2.1 hb.2.2.2.2.1 hz1 hz2
  refine wp_eq (e5_9 ..) (wp_sw ?_)
  rw [hcn9]
  have hcn1 : cn (nO σ 9 m) 1 + z_off 1 = 276 + m := by
    show cn σ 1 + z_off 1 = _
    rw [hX.1.2.1, c3]; rfl
  have hcnA : cn (nO (nO σ 9 m) 1 (276 + m)) 80741649 + z_off 80741649 = 276 + m := by
    show cn σ 80741649 + z_off 80741649 = _
    rw [hX.1.2.1, c4]; rfl
  have hpe : gI σ 0 8 0 = Int32.ofNat m := (rx_PEERS hX).trans (by rw [hm])
  have hnw : gI σ 0 17 0 = Int32.ofNat (vN A 5 0) := rx_NOW hX
  rw [show gI (nO σ 9 m) 0 8 0 = Int32.ofNat m from hpe, show gI (nO σ 9 m) 0 17 0 = Int32.ofNat (vN A 5 0) from hnw, io_add_l]
  refine wp_cv (wp_eq (c229 ..) (wp_eq (e229_0 ..) (wp_sw ?_)))
  rw [hcn1]
  refine wp_cv (wp_eq (c238 ..) (wp_eq (e238_0 ..) (wp_sw (wp_sw (wp_ret ⟨rfl, ?_⟩)))))
  rw [hcnA]
  have hX2 := X_num hX1 (n := m) (by show vN A 0 0 ≤ m; omega) (Int32.ofNat (m + 1))
  have hX3 := wx_STARTS hX2 m x
  have hX4 := wx_DUE hX3 m (vN A 5 0 + 30)
  rw [io_add_l]
  refine wp_sw (wp_sw (wp_gd hx (wp_sw (wp_sw (wp_ret ⟨rfl, ?_⟩)))))
  have r9 := rx_p9_1 hX4 m
  refine wp_dr r9 (wp_gd rfl ?_)
  have r0 := rx_p0_0 hX4
  have ht4 := rx_AT hX4
  have rp := rx_p1_0 hX4
  have hb2 : vN A 2 0 ≤ 16 := hb.2.2.1
  have hb4 : vN A 4 0 ≤ 32 := hb.2.2.2.2.1
  have hg0 : gI (wI (wI (wI (z_np σ m (276 + m)) 9 0 m (Int32.ofNat (m + 1))) 9 2 m x) 9 12 m (Int32.ofNat (vN A 5 0 + 30))) 9 0 m = Int32.ofNat (m + 1) := by
    rw [gI_wI, if_neg (fun g => absurd g.2.1 (by decide)), gI_wI, if_neg (fun g => absurd g.2.1 (by decide)), gI_wI, if_pos ⟨rfl, rfl, rfl⟩]
  have ecn : ∀ c, cn (wI (wI (wI (z_np σ m (276 + m)) 9 0 m (Int32.ofNat (m + 1))) 9 2 m x) 9 12 m (Int32.ofNat (vN A 5 0 + 30))) c = cn (z_np σ m (276 + m)) c := fun _ => rfl
  generalize hS : wI (wI (wI (z_np σ m (276 + m)) 9 0 m (Int32.ofNat (m + 1))) 9 2 m x) 9 12 m (Int32.ofNat (vN A 5 0 + 30)) = S at *
  have goalS : S = wI (wI (wI (wR (wR (nA (nO (nO σ 9 m) 1 (276 + m)) 80741649 (276 + m)) 1 0 (276 + m) (some (80741649, 276 + m))) 9 1 m (some (1, 276 + m))) 9 0 m (Int32.ofNat (m + 1))) 9 2 m x) 9 12 m (Int32.ofNat (vN A 5 0 + 30)) := hS.symm
  rw [← goalS]
  rw [r0]
  refine wp_cv (xc_copy_ (d := d + 1) ht4 h40 rp (by omega) fun f hf => ⟨rfl, ?_⟩)
  have hX5 := wx_PNAME hX4 hb2 hb4 (p := m) (by omega) hf
  refine wp_dr (rx_p0_0 hX5) (wp_gd rfl (wp_cv (xc_clear_ (d := d + 1) ⟨rfl, ?_⟩)))
  have hX6 := wx_AT0 hX5 hb2 hb4
  have h8 := rx_PEERS hX6
  have h8 : gI (wI (x_tw S (276 + m) (vL (sN (sI (sL A 2 m []) 11 m x) 8 m (vN A 5 0 + 30)) 0 0).length f) 1 1 0 0) 0 8 0 = Int32.ofNat m := h8.trans (by rw [hm]; rfl)
  rw [h8, io_add_l]
  refine wp_sw (wp_dr (rx_p0_7 hX6) (wp_gd (by rw [aty_2097301]; decide) (wp_gd (by rw [alen_2097301]; exact zin_io (by omega) (by decide)) ?_)))
  rw [io_nat (by omega)]
  have hX7 := X_PEERS hX6 (n := m) hm.symm hg0
  refine wp_sw (wp_ret (k _ _ _ ?_ ?_ (X_cv hX7 ?_) ?_))
  · rfl
  · have e9 : cn (z_np σ m (276 + m)) 9 = cn T 9 + 1 := by
      rw [← congrFun hX.1.2.1 9]
      rfl
    have e1 : cn (z_np σ m (276 + m)) 1 = cn T 1 + 1 := by
      rw [← congrFun hX.1.2.1 1]
      rfl
    have e8 : cn (z_np σ m (276 + m)) 80741649 = cn T 80741649 + 1 := by
      rw [← congrFun hX.1.2.1 80741649]
      rfl
    have e10 : cn (z_np σ m (276 + m)) 10 = cn T 10 := by
      rw [← congrFun hX.1.2.1 10]
      rfl
    have e14 : cn (z_np σ m (276 + m)) 14 = cn T 14 := by
      rw [← congrFun hX.1.2.1 14]
      rfl
    have ea : al (z_np σ m (276 + m)) = al T ++ [(9, m)] ++ [(1, 276 + m)] ++ [(80741649, 276 + m)] := by
      rw [← hX.1.2.2]
      rfl
    refine ⟨e14.trans c0, by rw [show cn (cn (z_np σ m (276 + m)), al (z_np σ m (276 + m)), T.2.2) 9 = _ from e9, c1]; rfl, e10.trans c2, by rw [show cn (cn (z_np σ m (276 + m)), al (z_np σ m (276 + m)), T.2.2) 1 = _ from e1, c3]; rfl, by rw [show cn (cn (z_np σ m (276 + m)), al (z_np σ m (276 + m)), T.2.2) 80741649 = _ from e8, c4]; rfl, ?_, ?_⟩
    · show (al (z_np σ m (276 + m))).length ≤ 100000 + 3 * (m + 1) + vN A 1 0
      rw [ea, List.length_append, List.length_append, List.length_append, List.length_singleton, List.length_singleton, List.length_singleton]
      omega
    · show z_sl (al (z_np σ m (276 + m))) ≤ 1000000 + 100 * (m + 1) + 10 * vN A 1 0
      rw [ea, sl_app, sl_app, sl_app]
      have g1 : z_sl [(9, m)] = 18 := rfl
      have g2 : z_sl [(1, 276 + m)] = 2 := rfl
      have g3 : z_sl [(80741649, 276 + m)] = 40 := by
        show (if (80741649 : Nat) < 16 then oN 80741649 else aLen 80741649) + 0 = 40
        rw [if_neg (by decide), alen_80741649]
      omega
  · have q : sL (sN (sI (sL A 2 m []) 11 m x) 8 m (vN A 5 0 + 30)) 2 m (vL A 0 0) = sL (sN (sI A 11 m x) 8 m (vN A 5 0 + 30)) 2 m (vL A 0 0) := by
      show sL (sL (sN (sI A 11 m x) 8 m (vN A 5 0 + 30)) 2 m []) 2 m (vL A 0 0) = _
      rw [sL_sL]
    exact congrArg (fun z => sN (sL z 0 0 []) 0 0 (m + 1)) q
  · rw [rx_PEERS hX7]
    rfl
