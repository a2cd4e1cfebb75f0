/-! PART 97d (src 97d.xloop.src, printed by wip/gen/g97b.py) -/
set_option maxHeartbeats 2000000
set_option maxRecDepth 10000
theorem xl_links {L : Nat} {xs : Nat → Int32} {d : Nat} {Q : z_St → Option z_V → Prop} : ∀ (r k : Nat) (σ : z_St) (f : Nat → Nat) (ln sl : Nat), k + r = 8 → z_cs L xs z_un (z_ei 7 5 5) (z_er 16 k 0 0 0) f ln sl σ → f 4 = k → f 73419537 = k → f 74512913 = k → (∀ σ' f', z_cs L xs z_un (z_ei 7 5 5) (z_er 16 8 0 0 0) f' (ln + 3 * r) (sl + 2609 * r) σ' → (∀ a, ¬ (a = 4 ∨ a = 73419537 ∨ a = 74512913) → f' a = f a) → wp (E xP1 (zD (d + 2)) 3 [some (.inr (.inr (some (0, 0)))), none] [] σ') Q) →
    wp (E xP1 (zD (d + 2)) 1 [some (.inr (.inr (some (0, 0)))), some (.inl (Int32.ofNat k))] [] σ) Q
  | 0, k, σ, f, ln, sl, hk, h, h4, h5, h6, q => by
    have : k = 8 := by omega
    subst this
    exact wp_eq (e1_1 ..) (wp_if (fun _ => q σ f h (fun _ _ => rfl)) (fun g => absurd (by decide) g))
  | r + 1, k, σ, f, ln, sl, hk, h, h4, h5, h6, q => by
    refine wp_eq (e1_1 ..) (wp_if (fun g => ?_) (fun _ => ?_))
    · rw [show (8 : Int32) = Int32.ofNat 8 from rfl, io_le (by omega) (by omega)] at g
      omega
    have e0 : cn σ 4 + z_off 4 = k + 1 := by rw [h.2.2.2.1, h4]; rfl
    have rp : gR σ 0 6 0 = some (1048852, 0) := h.2.2.1 0 6 0 (er_0 (by unfold z_sd; omega))
    refine wp_eq (e1_2 ..) ?_
    rw [e0]
    have a1 := cs_O (V := z_un) (FI := fun c d m => z_ei 7 5 5 c d m ∨ (c = 4 ∧ d = 0 ∧ m = k + 1)) (FR := fun c d m => z_er 16 k 0 0 0 c d m ∨ (c = 4 ∧ m = k + 1 ∧ (d = 4 ∨ d = 6))) h (a := 4) (n := k + 1) (by decide) (fun d => by
      by_cases e : d = 0
      · exact .inl (.inr ⟨rfl, e, rfl⟩)
      · right
        unfold z_mui
        rw [if_neg (by decide), if_neg (by decide), if_neg (by decide), if_pos rfl, if_neg (fun g => e g.1)]) (fun d => by
      by_cases e : d = 4 ∨ d = 6
      · exact .inl (.inr ⟨rfl, rfl, e⟩)
      · right
        unfold z_mur
        rw [if_neg (by decide), if_neg (by decide), if_neg (by decide), if_neg (by decide), if_pos rfl, if_neg (fun g => e (.inl g)), if_neg (fun g => e (.inr g))]) (fun _ _ _ q => .inl q) (fun _ _ _ q => .inl q) (fun b hb => ⟨hb, fun e => by subst e; unfold z_un at hb; omega⟩)
    refine wp_sw (wp_cv (wp_eq (c190 ..) (wp_eq (e190_0 ..) ?_)))
    have f4 : va_up f 4 (f 4 + 1) 4 = k + 1 := by show f 4 + 1 = k + 1; rw [h4]
    have f5 : va_up f 4 (f 4 + 1) 73419537 = k := h5
    have f6 : va_up f 4 (f 4 + 1) 74512913 = k := h6
    have fo : ∀ a, ¬ (a = 4 ∨ a = 73419537 ∨ a = 74512913) → va_up f 4 (f 4 + 1) a = f a := fun a ha => by
      unfold va_up
      rw [if_neg (fun g => ha (.inl g))]
    generalize va_up f 4 (f 4 + 1) = f1 at *
    generalize nO σ 4 (k + 1) = s1 at a1 ⊢
    rw [show cn s1 73419537 + z_off 73419537 = k + 1 from by rw [a1.2.2.2.1, f5]; rfl]
    have a2 := cs_A (V := z_un) (FI := fun c d m => z_ei 7 5 5 c d m ∨ (c = 4 ∧ d = 0 ∧ m = k + 1)) (FR := fun c d m => z_er 16 k 0 0 0 c d m ∨ (c = 4 ∧ m = k + 1 ∧ (d = 4 ∨ d = 6))) a1 (a := 73419537) (n := k + 1) (by decide) (fun m => .inr (mui_0 (by decide) _ _)) (fun m => .inr (mur_0 (by decide) _ _)) (fun _ _ _ q => q) (fun _ _ _ q => q) (fun b hb => ⟨hb, fun e => by subst e; unfold z_un at hb; omega⟩)
    have a3 := cs_R (FR := fun c d m => z_er 16 k 0 0 0 c d m ∨ (c = 4 ∧ m = k + 1 ∧ d = 6)) a2 (a := 4) (b := 4) (n := k + 1) (x := some (73419537, k + 1)) rfl (fun c d m q hn => q.elim .inl (fun g => .inr (by omega)))
    refine wp_sw (wp_sw ?_)
    have g4 : va_up f1 73419537 (f1 73419537 + 1) 4 = k + 1 := f4
    have g5 : va_up f1 73419537 (f1 73419537 + 1) 73419537 = k + 1 := by show f1 73419537 + 1 = k + 1; rw [f5]
    have g6 : va_up f1 73419537 (f1 73419537 + 1) 74512913 = k := f6
    have go : ∀ a, ¬ (a = 4 ∨ a = 73419537 ∨ a = 74512913) → va_up f1 73419537 (f1 73419537 + 1) a = f a := fun a ha => by
      unfold va_up
      rw [if_neg (fun g => ha (.inr (.inl g)))]
      exact fo a ha
    generalize va_up f1 73419537 (f1 73419537 + 1) = f2 at *
    generalize wR (nA s1 73419537 (k + 1)) 4 4 (k + 1) (some (73419537, k + 1)) = s3 at a3 ⊢
    rw [show cn s3 74512913 + z_off 74512913 = k + 1 from by rw [a3.2.2.2.1, g6]; rfl]
    have a4 := cs_A (V := z_un) (FI := fun c d m => z_ei 7 5 5 c d m ∨ (c = 4 ∧ d = 0 ∧ m = k + 1)) (FR := fun c d m => z_er 16 k 0 0 0 c d m ∨ (c = 4 ∧ m = k + 1 ∧ d = 6)) a3 (a := 74512913) (n := k + 1) (by decide) (fun m => .inr (mui_0 (by decide) _ _)) (fun m => .inr (mur_0 (by decide) _ _)) (fun _ _ _ q => q) (fun _ _ _ q => q) (fun b hb => ⟨hb, fun e => by subst e; unfold z_un at hb; omega⟩)
    have a5 := cs_R (FR := z_er 16 k 0 0 0) a4 (a := 4) (b := 6) (n := k + 1) (x := some (74512913, k + 1)) rfl (fun c d m q hn => q.elim id (fun g => absurd ⟨g.1, g.2.2, g.2.1⟩ hn))
    have a6 := cs_I (FI := z_ei 7 5 5) a5 (a := 4) (b := 0) (n := k + 1) (x := Int32.ofNat (k + 1)) (.inl (by
      unfold z_mui
      rw [if_neg (by decide), if_neg (by decide), if_neg (by decide), if_pos rfl, if_pos ⟨rfl, by omega, by omega⟩])) (fun c d m q hn => q.elim id (fun g => absurd g hn))
    refine wp_sw (wp_sw (wp_sw (wp_ret ⟨rfl, ?_⟩)))
    refine wp_dr rp (wp_gd (by rw [aty_1048852]; decide) (wp_gd (by rw [alen_1048852]; exact zin_io (by omega) (by decide)) ?_))
    dsimp only
    rw [io_nat (by omega), io_add_l]
    have a7 := cs_R (FR := z_er 16 (k + 1) 0 0 0) a6 (a := 1048852) (b := 0) (n := k) (x := some (4, k + 1)) (by
      unfold z_mur
      rw [if_neg (by decide), if_neg (by decide), if_neg (by decide), if_neg (by decide), if_neg (by decide), if_neg (by decide), if_neg (by decide), if_neg (by decide), if_neg (by decide), if_neg (by decide), if_pos rfl, if_pos ⟨rfl, by omega⟩]) (fun c d m q hn => er_k4 q hn)
    refine wp_sw (xl_links r (k + 1) _ _ _ _ (by omega) a7 (show va_up f2 74512913 (f2 74512913 + 1) 4 = k + 1 from g4) (show va_up f2 74512913 (f2 74512913 + 1) 73419537 = k + 1 from g5) (show va_up f2 74512913 (f2 74512913 + 1) 74512913 = k + 1 from by show f2 74512913 + 1 = k + 1; rw [g6]) fun σ' f' h' ho => q σ' f' ?_ fun a ha => ?_)
    · rw [ar_l1 ln r, ar_l2 sl r (oN 4) (aLen 73419537) (aLen 74512913) rfl alen_73419537 alen_74512913]
      exact h'
    · rw [ho a ha]
      unfold va_up
      rw [if_neg (fun g => ha (.inr (.inr g)))]
      exact go a ha
theorem xl_sess0 {L : Nat} {xs : Nat → Int32} {d : Nat} {Q : z_St → Option z_V → Prop} : ∀ (r k : Nat) (σ : z_St) (f : Nat → Nat) (ln sl : Nat), k + r = 16 → z_cs L xs z_un (z_ei 7 5 5) (z_er 16 8 k 0 0) f ln sl σ → f 5 = k → f 1 = 4 + 3 * k → f 80741649 = 4 + 3 * k → (∀ σ' f', z_cs L xs z_un (z_ei 7 5 5) (z_er 16 8 16 0 0) f' (ln + 7 * r) (sl + 134 * r) σ' → f' 1 = 4 + 3 * 16 → f' 80741649 = 4 + 3 * 16 → (∀ a, ¬ (a = 5 ∨ a = 1 ∨ a = 80741649) → f' a = f a) → wp (E xP1 (zD (d + 2)) 6 [some (.inr (.inr (some (0, 0)))), none] [] σ') Q) →
    wp (E xP1 (zD (d + 2)) 4 [some (.inr (.inr (some (0, 0)))), some (.inl (Int32.ofNat k))] [] σ) Q
  | 0, k, σ, f, ln, sl, hk, h, h5, h1, h8, q => by
    have : k = 16 := by omega
    subst this
    exact wp_eq (e1_4 ..) (wp_if (fun _ => q σ f h h1 h8 (fun _ _ => rfl)) (fun g => absurd (by decide) g))
  | r + 1, k, σ, f, ln, sl, hk, h, h5, h1, h8, q => by
    refine wp_eq (e1_4 ..) (wp_if (fun g => ?_) (fun _ => ?_))
    · rw [show (16 : Int32) = Int32.ofNat 16 from rfl, io_le (by omega) (by omega)] at g
      omega
    have e0 : cn σ 5 + z_off 5 = k := by rw [h.2.2.2.1, h5]; rfl
    have rp : gR σ 0 11 0 = some (4194839, 0) := h.2.2.1 0 11 0 (er_0 (by unfold z_sd; omega))
    refine wp_eq (e1_5 ..) ?_
    rw [e0]
    have mur5 : ∀ d, ¬ d < 3 → z_mur 5 d k = none := fun d hd => by
      unfold z_mur
      rw [if_neg (by decide), if_neg (by decide), if_neg (by decide), if_neg (by decide), if_neg (by decide), if_pos rfl, if_neg hd]
    have mur6 : ∀ d, d < 3 → z_mur 5 d k = some (1, 4 + d + 3 * k) := fun d hd => by
      unfold z_mur
      rw [if_neg (by decide), if_neg (by decide), if_neg (by decide), if_neg (by decide), if_neg (by decide), if_pos rfl, if_pos hd]
    have a1 := cs_O (V := z_un) (FI := z_ei 7 5 5) (FR := fun c d m => z_er 16 8 k 0 0 c d m ∨ (c = 5 ∧ m = k ∧ d < 3)) h (a := 5) (n := k) (by decide) (fun d => .inr (mui_0 (by decide) _ _)) (fun d => by
      by_cases e : d < 3
      · exact .inl (.inr ⟨rfl, rfl, e⟩)
      · exact .inr (mur5 d e)) (fun _ _ _ q => q) (fun _ _ _ q => .inl q) (fun b hb => ⟨hb, fun e => by subst e; unfold z_un at hb; omega⟩)
    refine wp_sw (wp_cv (wp_eq (c235 ..) (wp_eq (e235_0 ..) ?_)))
    have f5 : va_up f 5 (f 5 + 1) 5 = k + 1 := by show f 5 + 1 = k + 1; rw [h5]
    have f1 : va_up f 5 (f 5 + 1) 1 = 4 + 3 * k := h1
    have f8 : va_up f 5 (f 5 + 1) 80741649 = 4 + 3 * k := h8
    have fo : ∀ a, ¬ (a = 5 ∨ a = 1 ∨ a = 80741649) → va_up f 5 (f 5 + 1) a = f a := fun a ha => by
      unfold va_up
      rw [if_neg (fun g => ha (.inl g))]
    generalize va_up f 5 (f 5 + 1) = g0 at *
    generalize nO σ 5 k = s1 at a1 ⊢
    have c0 : cn s1 1 + z_off 1 = 4 + 3 * k := by rw [a1.2.2.2.1, f1]; rfl
    refine cs_T a1 f1 f8 ⟨fun d => .inr ((mui_T (by omega)).1 d), fun m => .inr ((mui_T (by omega)).2 m)⟩ fun t0 p0 u0 hp0 => wp_sw ?_
    rw [c0]
    have u0 := cs_R (FR := fun c d m => z_er 16 8 k 0 0 c d m ∨ (c = 5 ∧ m = k ∧ 1 ≤ d ∧ d < 3)) u0 (a := 5) (b := 0) (n := k) (x := some (1, 4 + 3 * k)) (mur6 0 (by decide)).symm (fun c d m q hn => q.elim .inl (fun g => .inr (by omega)))
    have f5 : p0 5 = k + 1 := by rw [hp0]; exact f5
    have f1 : p0 1 = 5 + 3 * k := by rw [hp0]; show 4 + 3 * k + 1 = _; exact ar_4 4 k
    have f8 : p0 80741649 = 5 + 3 * k := by rw [hp0]; show 4 + 3 * k + 1 = _; exact ar_4 4 k
    have fo : ∀ a, ¬ (a = 5 ∨ a = 1 ∨ a = 80741649) → p0 a = f a := fun a ha => by
      rw [hp0]
      unfold va_up
      rw [if_neg (fun g => ha (.inr (.inr g))), if_neg (fun g => ha (.inr (.inl g)))]
      exact fo a ha
    clear hp0
    generalize wR t0 5 0 k (some (1, 4 + 3 * k)) = v0 at u0 ⊢
    have c1 : cn v0 1 + z_off 1 = 5 + 3 * k := by rw [u0.2.2.2.1, f1]; rfl
    refine cs_T u0 f1 f8 ⟨fun d => .inr ((mui_T (by omega)).1 d), fun m => .inr ((mui_T (by omega)).2 m)⟩ fun t1 p1 u1 hp1 => wp_sw ?_
    rw [c1]
    have u1 := cs_R (FR := fun c d m => z_er 16 8 k 0 0 c d m ∨ (c = 5 ∧ m = k ∧ 2 ≤ d ∧ d < 3)) u1 (a := 5) (b := 1) (n := k) (x := some (1, 5 + 3 * k)) (mur6 1 (by decide)).symm (fun c d m q hn => q.elim .inl (fun g => .inr (by omega)))
    have f5 : p1 5 = k + 1 := by rw [hp1]; exact f5
    have f1 : p1 1 = 6 + 3 * k := by rw [hp1]; show 5 + 3 * k + 1 = _; exact ar_4 5 k
    have f8 : p1 80741649 = 6 + 3 * k := by rw [hp1]; show 5 + 3 * k + 1 = _; exact ar_4 5 k
    have fo : ∀ a, ¬ (a = 5 ∨ a = 1 ∨ a = 80741649) → p1 a = f a := fun a ha => by
      rw [hp1]
      unfold va_up
      rw [if_neg (fun g => ha (.inr (.inr g))), if_neg (fun g => ha (.inr (.inl g)))]
      exact fo a ha
    clear hp1
    generalize wR t1 5 1 k (some (1, 5 + 3 * k)) = v1 at u1 ⊢
    have c2 : cn v1 1 + z_off 1 = 6 + 3 * k := by rw [u1.2.2.2.1, f1]; rfl
    refine cs_T u1 f1 f8 ⟨fun d => .inr ((mui_T (by omega)).1 d), fun m => .inr ((mui_T (by omega)).2 m)⟩ fun t2 p2 u2 hp2 => wp_sw ?_
    rw [c2]
    have u2 := cs_R (FR := fun c d m => z_er 16 8 k 0 0 c d m ∨ (c = 5 ∧ m = k ∧ 3 ≤ d ∧ d < 3)) u2 (a := 5) (b := 2) (n := k) (x := some (1, 6 + 3 * k)) (mur6 2 (by decide)).symm (fun c d m q hn => q.elim .inl (fun g => .inr (by omega)))
    have f5 : p2 5 = k + 1 := by rw [hp2]; exact f5
    have f1 : p2 1 = 7 + 3 * k := by rw [hp2]; show 6 + 3 * k + 1 = _; exact ar_4 6 k
    have f8 : p2 80741649 = 7 + 3 * k := by rw [hp2]; show 6 + 3 * k + 1 = _; exact ar_4 6 k
    have fo : ∀ a, ¬ (a = 5 ∨ a = 1 ∨ a = 80741649) → p2 a = f a := fun a ha => by
      rw [hp2]
      unfold va_up
      rw [if_neg (fun g => ha (.inr (.inr g))), if_neg (fun g => ha (.inr (.inl g)))]
      exact fo a ha
    clear hp2
    generalize wR t2 5 2 k (some (1, 6 + 3 * k)) = v2 at u2 ⊢
    refine wp_ret ⟨rfl, ?_⟩
    refine wp_dr rp (wp_gd (by rw [aty_4194839]; decide) (wp_gd (by rw [alen_4194839]; exact zin_io (by omega) (by decide)) ?_))
    dsimp only
    rw [io_nat (by omega), io_add_l]
    have a7 := cs_R (FR := z_er 16 8 (k + 1) 0 0) u2 (a := 4194839) (b := 0) (n := k) (x := some (5, k)) (by
      unfold z_mur
      rw [if_neg (by decide), if_neg (by decide), if_neg (by decide), if_neg (by decide), if_neg (by decide), if_neg (by decide), if_neg (by decide), if_neg (by decide), if_neg (by decide), if_neg (by decide), if_neg (by decide), if_pos rfl, if_pos ⟨rfl, by omega⟩]) (fun c d m q hn => q.elim (fun q => er_k5 q hn) (fun g => absurd g.2.2.1 (by omega)))
    refine wp_sw (xl_sess0 r (k + 1) _ _ _ _ (by omega) a7 f5 (f1.trans (ar_3 4 k)) (f8.trans (ar_3 4 k)) fun σ' f' h' e1 e8 ho => q σ' f' ?_ e1 e8 fun a ha => ?_)
    · rw [ar_t1 ln r, ar_t2 sl r (oN 5) rfl]
      exact h'
    · rw [ho a ha]
      exact fo a ha
theorem xl_asks0 {L : Nat} {xs : Nat → Int32} {d : Nat} {Q : z_St → Option z_V → Prop} : ∀ (r k : Nat) (σ : z_St) (f : Nat → Nat) (ln sl : Nat), k + r = 64 → z_cs L xs z_un (z_ei 7 5 5) (z_er 16 8 16 k 0) f ln sl σ → f 6 = k → f 1 = 52 + 3 * k → f 80741649 = 52 + 3 * k → (∀ σ' f', z_cs L xs z_un (z_ei 7 5 5) (z_er 16 8 16 64 0) f' (ln + 7 * r) (sl + 134 * r) σ' → f' 1 = 52 + 3 * 64 → f' 80741649 = 52 + 3 * 64 → (∀ a, ¬ (a = 6 ∨ a = 1 ∨ a = 80741649) → f' a = f a) → wp (E xP1 (zD (d + 2)) 9 [some (.inr (.inr (some (0, 0)))), none] [] σ') Q) →
    wp (E xP1 (zD (d + 2)) 7 [some (.inr (.inr (some (0, 0)))), some (.inl (Int32.ofNat k))] [] σ) Q
  | 0, k, σ, f, ln, sl, hk, h, h5, h1, h8, q => by
    have : k = 64 := by omega
    subst this
    exact wp_eq (e1_7 ..) (wp_if (fun _ => q σ f h h1 h8 (fun _ _ => rfl)) (fun g => absurd (by decide) g))
  | r + 1, k, σ, f, ln, sl, hk, h, h5, h1, h8, q => by
    refine wp_eq (e1_7 ..) (wp_if (fun g => ?_) (fun _ => ?_))
    · rw [show (64 : Int32) = Int32.ofNat 64 from rfl, io_le (by omega) (by omega)] at g
      omega
    have e0 : cn σ 6 + z_off 6 = k := by rw [h.2.2.2.1, h5]; rfl
    have rp : gR σ 0 13 0 = some (5244952, 0) := h.2.2.1 0 13 0 (er_0 (by unfold z_sd; omega))
    refine wp_eq (e1_8 ..) ?_
    rw [e0]
    have mur5 : ∀ d, ¬ d < 3 → z_mur 6 d k = none := fun d hd => by
      unfold z_mur
      rw [if_neg (by decide), if_neg (by decide), if_neg (by decide), if_neg (by decide), if_neg (by decide), if_neg (by decide), if_pos rfl, if_neg hd]
    have mur6 : ∀ d, d < 3 → z_mur 6 d k = some (1, 52 + d + 3 * k) := fun d hd => by
      unfold z_mur
      rw [if_neg (by decide), if_neg (by decide), if_neg (by decide), if_neg (by decide), if_neg (by decide), if_neg (by decide), if_pos rfl, if_pos hd]
    have a1 := cs_O (V := z_un) (FI := z_ei 7 5 5) (FR := fun c d m => z_er 16 8 16 k 0 c d m ∨ (c = 6 ∧ m = k ∧ d < 3)) h (a := 6) (n := k) (by decide) (fun d => .inr (mui_0 (by decide) _ _)) (fun d => by
      by_cases e : d < 3
      · exact .inl (.inr ⟨rfl, rfl, e⟩)
      · exact .inr (mur5 d e)) (fun _ _ _ q => q) (fun _ _ _ q => .inl q) (fun b hb => ⟨hb, fun e => by subst e; unfold z_un at hb; omega⟩)
    refine wp_sw (wp_cv (wp_eq (c234 ..) (wp_eq (e234_0 ..) ?_)))
    have f5 : va_up f 6 (f 6 + 1) 6 = k + 1 := by show f 6 + 1 = k + 1; rw [h5]
    have f1 : va_up f 6 (f 6 + 1) 1 = 52 + 3 * k := h1
    have f8 : va_up f 6 (f 6 + 1) 80741649 = 52 + 3 * k := h8
    have fo : ∀ a, ¬ (a = 6 ∨ a = 1 ∨ a = 80741649) → va_up f 6 (f 6 + 1) a = f a := fun a ha => by
      unfold va_up
      rw [if_neg (fun g => ha (.inl g))]
    generalize va_up f 6 (f 6 + 1) = g0 at *
    generalize nO σ 6 k = s1 at a1 ⊢
    have c0 : cn s1 1 + z_off 1 = 52 + 3 * k := by rw [a1.2.2.2.1, f1]; rfl
    refine cs_T a1 f1 f8 ⟨fun d => .inr ((mui_T (by omega)).1 d), fun m => .inr ((mui_T (by omega)).2 m)⟩ fun t0 p0 u0 hp0 => wp_sw ?_
    rw [c0]
    have u0 := cs_R (FR := fun c d m => z_er 16 8 16 k 0 c d m ∨ (c = 6 ∧ m = k ∧ 1 ≤ d ∧ d < 3)) u0 (a := 6) (b := 0) (n := k) (x := some (1, 52 + 3 * k)) (mur6 0 (by decide)).symm (fun c d m q hn => q.elim .inl (fun g => .inr (by omega)))
    have f5 : p0 6 = k + 1 := by rw [hp0]; exact f5
    have f1 : p0 1 = 53 + 3 * k := by rw [hp0]; show 52 + 3 * k + 1 = _; exact ar_4 52 k
    have f8 : p0 80741649 = 53 + 3 * k := by rw [hp0]; show 52 + 3 * k + 1 = _; exact ar_4 52 k
    have fo : ∀ a, ¬ (a = 6 ∨ a = 1 ∨ a = 80741649) → p0 a = f a := fun a ha => by
      rw [hp0]
      unfold va_up
      rw [if_neg (fun g => ha (.inr (.inr g))), if_neg (fun g => ha (.inr (.inl g)))]
      exact fo a ha
    clear hp0
    generalize wR t0 6 0 k (some (1, 52 + 3 * k)) = v0 at u0 ⊢
    have c1 : cn v0 1 + z_off 1 = 53 + 3 * k := by rw [u0.2.2.2.1, f1]; rfl
    refine cs_T u0 f1 f8 ⟨fun d => .inr ((mui_T (by omega)).1 d), fun m => .inr ((mui_T (by omega)).2 m)⟩ fun t1 p1 u1 hp1 => wp_sw ?_
    rw [c1]
    have u1 := cs_R (FR := fun c d m => z_er 16 8 16 k 0 c d m ∨ (c = 6 ∧ m = k ∧ 2 ≤ d ∧ d < 3)) u1 (a := 6) (b := 1) (n := k) (x := some (1, 53 + 3 * k)) (mur6 1 (by decide)).symm (fun c d m q hn => q.elim .inl (fun g => .inr (by omega)))
    have f5 : p1 6 = k + 1 := by rw [hp1]; exact f5
    have f1 : p1 1 = 54 + 3 * k := by rw [hp1]; show 53 + 3 * k + 1 = _; exact ar_4 53 k
    have f8 : p1 80741649 = 54 + 3 * k := by rw [hp1]; show 53 + 3 * k + 1 = _; exact ar_4 53 k
    have fo : ∀ a, ¬ (a = 6 ∨ a = 1 ∨ a = 80741649) → p1 a = f a := fun a ha => by
      rw [hp1]
      unfold va_up
      rw [if_neg (fun g => ha (.inr (.inr g))), if_neg (fun g => ha (.inr (.inl g)))]
      exact fo a ha
    clear hp1
    generalize wR t1 6 1 k (some (1, 53 + 3 * k)) = v1 at u1 ⊢
    have c2 : cn v1 1 + z_off 1 = 54 + 3 * k := by rw [u1.2.2.2.1, f1]; rfl
    refine cs_T u1 f1 f8 ⟨fun d => .inr ((mui_T (by omega)).1 d), fun m => .inr ((mui_T (by omega)).2 m)⟩ fun t2 p2 u2 hp2 => wp_sw ?_
    rw [c2]
    have u2 := cs_R (FR := fun c d m => z_er 16 8 16 k 0 c d m ∨ (c = 6 ∧ m = k ∧ 3 ≤ d ∧ d < 3)) u2 (a := 6) (b := 2) (n := k) (x := some (1, 54 + 3 * k)) (mur6 2 (by decide)).symm (fun c d m q hn => q.elim .inl (fun g => .inr (by omega)))
    have f5 : p2 6 = k + 1 := by rw [hp2]; exact f5
    have f1 : p2 1 = 55 + 3 * k := by rw [hp2]; show 54 + 3 * k + 1 = _; exact ar_4 54 k
    have f8 : p2 80741649 = 55 + 3 * k := by rw [hp2]; show 54 + 3 * k + 1 = _; exact ar_4 54 k
    have fo : ∀ a, ¬ (a = 6 ∨ a = 1 ∨ a = 80741649) → p2 a = f a := fun a ha => by
      rw [hp2]
      unfold va_up
      rw [if_neg (fun g => ha (.inr (.inr g))), if_neg (fun g => ha (.inr (.inl g)))]
      exact fo a ha
    clear hp2
    generalize wR t2 6 2 k (some (1, 54 + 3 * k)) = v2 at u2 ⊢
    refine wp_ret ⟨rfl, ?_⟩
    refine wp_dr rp (wp_gd (by rw [aty_5244952]; decide) (wp_gd (by rw [alen_5244952]; exact zin_io (by omega) (by decide)) ?_))
    dsimp only
    rw [io_nat (by omega), io_add_l]
    have a7 := cs_R (FR := z_er 16 8 16 (k + 1) 0) u2 (a := 5244952) (b := 0) (n := k) (x := some (6, k)) (by
      unfold z_mur
      rw [if_neg (by decide), if_neg (by decide), if_neg (by decide), if_neg (by decide), if_neg (by decide), if_neg (by decide), if_neg (by decide), if_neg (by decide), if_neg (by decide), if_neg (by decide), if_neg (by decide), if_neg (by decide), if_pos rfl, if_pos ⟨rfl, by omega⟩]) (fun c d m q hn => q.elim (fun q => er_k6 q hn) (fun g => absurd g.2.2.1 (by omega)))
    refine wp_sw (xl_asks0 r (k + 1) _ _ _ _ (by omega) a7 f5 (f1.trans (ar_3 52 k)) (f8.trans (ar_3 52 k)) fun σ' f' h' e1 e8 ho => q σ' f' ?_ e1 e8 fun a ha => ?_)
    · rw [ar_t1 ln r, ar_t2 sl r (oN 6) rfl]
      exact h'
    · rw [ho a ha]
      exact fo a ha
theorem xl_keeps0 {L : Nat} {xs : Nat → Int32} {d : Nat} {Q : z_St → Option z_V → Prop} : ∀ (r k : Nat) (σ : z_St) (f : Nat → Nat) (ln sl : Nat), k + r = 32 → z_cs L xs z_un (z_ei 7 5 5) (z_er 16 8 16 64 k) f ln sl σ → f 7 = k → f 72361361 = k → f 1 = 244 + k → f 80741649 = 244 + k → (∀ σ' f', z_cs L xs z_un (z_ei 7 5 5) (z_er 16 8 16 64 32) f' (ln + 4 * r) (sl + 347 * r) σ' → f' 1 = 276 → f' 80741649 = 276 → wp (E xP1 (zD (d + 2)) 12 [none, none] [] σ') Q) →
    wp (E xP1 (zD (d + 2)) 10 [some (.inr (.inr (some (0, 0)))), some (.inl (Int32.ofNat k))] [] σ) Q
  | 0, k, σ, f, ln, sl, hk, h, h7, h6, h1, h8, q => by
    have : k = 32 := by omega
    subst this
    exact wp_eq (e1_10 ..) (wp_if (fun _ => q σ f h h1 h8) (fun g => absurd (by decide) g))
  | r + 1, k, σ, f, ln, sl, hk, h, h7, h6, h1, h8, q => by
    refine wp_eq (e1_10 ..) (wp_if (fun g => ?_) (fun _ => ?_))
    · rw [show (32 : Int32) = Int32.ofNat 32 from rfl, io_le (by omega) (by omega)] at g
      omega
    have e0 : cn σ 7 + z_off 7 = k := by rw [h.2.2.2.1, h7]; rfl
    have rp : gR σ 0 15 0 = some (6292505, 0) := h.2.2.1 0 15 0 (er_0 (by unfold z_sd; omega))
    refine wp_eq (e1_11 ..) ?_
    rw [e0]
    have a1 := cs_O (V := z_un) (FI := z_ei 7 5 5) (FR := fun c d m => z_er 16 8 16 64 k c d m ∨ (c = 7 ∧ m = k ∧ (d = 0 ∨ d = 3))) h (a := 7) (n := k) (by decide) (fun d => .inr (mui_0 (by decide) _ _)) (fun d => by
      by_cases e : d = 0 ∨ d = 3
      · exact .inl (.inr ⟨rfl, rfl, e⟩)
      · right
        unfold z_mur
        rw [if_neg (by decide), if_neg (by decide), if_neg (by decide), if_neg (by decide), if_neg (by decide), if_neg (by decide), if_neg (by decide), if_pos rfl, if_neg (fun g => e (.inl g)), if_neg (fun g => e (.inr g))]) (fun _ _ _ q => q) (fun _ _ _ q => .inl q) (fun b hb => ⟨hb, fun e => by subst e; unfold z_un at hb; omega⟩)
    refine wp_sw (wp_cv (wp_eq (c189 ..) (wp_eq (e189_0 ..) ?_)))
    have f7 : va_up f 7 (f 7 + 1) 7 = k + 1 := by show f 7 + 1 = k + 1; rw [h7]
    have f6 : va_up f 7 (f 7 + 1) 72361361 = k := h6
    have f1 : va_up f 7 (f 7 + 1) 1 = 244 + k := h1
    have f8 : va_up f 7 (f 7 + 1) 80741649 = 244 + k := h8
    generalize va_up f 7 (f 7 + 1) = g0 at *
    generalize nO σ 7 k = s1 at a1 ⊢
    have c0 : cn s1 1 + z_off 1 = 244 + k := by rw [a1.2.2.2.1, f1]; rfl
    refine cs_T a1 f1 f8 ⟨fun d => .inr ((mui_T (by omega)).1 d), fun m => .inr ((mui_T (by omega)).2 m)⟩ fun t0 p0 u0 hp0 => wp_sw ?_
    rw [c0]
    have u0 := cs_R (FR := fun c d m => z_er 16 8 16 64 k c d m ∨ (c = 7 ∧ m = k ∧ d = 3)) u0 (a := 7) (b := 0) (n := k) (x := some (1, 244 + k)) rfl (fun c d m q hn => q.elim .inl (fun g => .inr (by omega)))
    have f7 : p0 7 = k + 1 := by rw [hp0]; exact f7
    have f6 : p0 72361361 = k := by rw [hp0]; exact f6
    have f1 : p0 1 = 245 + k := by rw [hp0]; show 244 + k + 1 = _; exact ar_2 244 k
    have f8 : p0 80741649 = 245 + k := by rw [hp0]; show 244 + k + 1 = _; exact ar_2 244 k
    clear hp0
    generalize wR t0 7 0 k (some (1, 244 + k)) = v0 at u0 ⊢
    rw [show cn v0 72361361 + z_off 72361361 = k from by rw [u0.2.2.2.1, f6]; rfl]
    have a2 := cs_A (V := z_un) (FI := z_ei 7 5 5) (FR := fun c d m => z_er 16 8 16 64 k c d m ∨ (c = 7 ∧ m = k ∧ d = 3)) u0 (a := 72361361) (n := k) (by decide) (fun m => .inr (mui_0 (by decide) _ _)) (fun m => .inr (mur_0 (by decide) _ _)) (fun _ _ _ q => q) (fun _ _ _ q => q) (fun b hb => ⟨hb, fun e => by subst e; unfold z_un at hb; omega⟩)
    have a3 := cs_R (FR := z_er 16 8 16 64 k) a2 (a := 7) (b := 3) (n := k) (x := some (72361361, k)) rfl (fun c d m q hn => q.elim id (fun g => absurd ⟨g.1, g.2.2, g.2.1⟩ hn))
    refine wp_sw (wp_sw (wp_ret ⟨rfl, ?_⟩))
    refine wp_dr rp (wp_gd (by rw [aty_6292505]; decide) (wp_gd (by rw [alen_6292505]; exact zin_io (by omega) (by decide)) ?_))
    dsimp only
    rw [io_nat (by omega), io_add_l]
    have a7 := cs_R (FR := z_er 16 8 16 64 (k + 1)) a3 (a := 6292505) (b := 0) (n := k) (x := some (7, k)) (by
      unfold z_mur
      rw [if_neg (by decide), if_neg (by decide), if_neg (by decide), if_neg (by decide), if_neg (by decide), if_neg (by decide), if_neg (by decide), if_neg (by decide), if_neg (by decide), if_neg (by decide), if_neg (by decide), if_neg (by decide), if_neg (by decide), if_pos rfl, if_pos ⟨rfl, by omega⟩]) (fun c d m q hn => er_k7 q hn)
    refine wp_sw (xl_keeps0 r (k + 1) _ _ _ _ (by omega) a7 (show p0 7 = k + 1 from f7) (by show p0 72361361 + 1 = k + 1; rw [f6]) (show p0 1 = 244 + (k + 1) from f1.trans (ar_1 244 k)) (show p0 80741649 = 244 + (k + 1) from f8.trans (ar_1 244 k)) fun σ' f' h' e1 e8 => q σ' f' ?_ e1 e8)
    rw [ar_k1 ln r, ar_k2 sl r (oN 7) (aLen 72361361) rfl alen_72361361]
    exact h'
