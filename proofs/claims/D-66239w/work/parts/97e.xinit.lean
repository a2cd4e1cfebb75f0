/-! PART 97e (src 97e.xinit.src, printed by wip/gen/g97b.py) -/
set_option maxHeartbeats 2000000
set_option maxRecDepth 10000
theorem er_1048852 (s m : Nat) : z_er s 0 0 0 0 1048852 0 m ∨ z_mur 1048852 0 m = none := by
  by_cases e : m < 8
  · left; exact .inr (.inl ⟨rfl, rfl, Nat.zero_le _, e⟩)
  · right; unfold z_mur; rw [if_neg (by decide), if_neg (by decide), if_neg (by decide), if_neg (by decide), if_neg (by decide), if_neg (by decide), if_neg (by decide), if_neg (by decide), if_neg (by decide), if_neg (by decide), if_pos rfl, if_neg (fun g => e g.2)]
theorem er_2097301 (s m : Nat) : z_er s 0 0 0 0 2097301 0 m ∨ z_mur 2097301 0 m = none := by
  exact .inr (mur_0 (by decide) _ _)
theorem er_3146262 (s m : Nat) : z_er s 0 0 0 0 3146262 0 m ∨ z_mur 3146262 0 m = none := by
  exact .inr (mur_0 (by decide) _ _)
theorem er_4194839 (s m : Nat) : z_er s 0 0 0 0 4194839 0 m ∨ z_mur 4194839 0 m = none := by
  by_cases e : m < 16
  · left; exact .inr (.inr (.inl ⟨rfl, rfl, Nat.zero_le _, e⟩))
  · right; unfold z_mur; rw [if_neg (by decide), if_neg (by decide), if_neg (by decide), if_neg (by decide), if_neg (by decide), if_neg (by decide), if_neg (by decide), if_neg (by decide), if_neg (by decide), if_neg (by decide), if_neg (by decide), if_pos rfl, if_neg (fun g => e g.2)]
theorem er_5244952 (s m : Nat) : z_er s 0 0 0 0 5244952 0 m ∨ z_mur 5244952 0 m = none := by
  by_cases e : m < 64
  · left; exact .inr (.inr (.inr (.inl ⟨rfl, rfl, Nat.zero_le _, e⟩)))
  · right; unfold z_mur; rw [if_neg (by decide), if_neg (by decide), if_neg (by decide), if_neg (by decide), if_neg (by decide), if_neg (by decide), if_neg (by decide), if_neg (by decide), if_neg (by decide), if_neg (by decide), if_neg (by decide), if_neg (by decide), if_pos rfl, if_neg (fun g => e g.2)]
theorem er_6292505 (s m : Nat) : z_er s 0 0 0 0 6292505 0 m ∨ z_mur 6292505 0 m = none := by
  by_cases e : m < 32
  · left; exact .inr (.inr (.inr (.inr ⟨rfl, rfl, Nat.zero_le _, e⟩)))
  · right; unfold z_mur; rw [if_neg (by decide), if_neg (by decide), if_neg (by decide), if_neg (by decide), if_neg (by decide), if_neg (by decide), if_neg (by decide), if_neg (by decide), if_neg (by decide), if_neg (by decide), if_neg (by decide), if_neg (by decide), if_neg (by decide), if_pos rfl, if_neg (fun g => e g.2)]
/-- the component's constructor -/
theorem xc_init {L : Nat} {xs : Nat → Int32} {f : Nat → Nat} {ln sl : Nat} {σ : z_St} (h : z_cs L xs z_un (z_ei 0 0 0) (z_er 0 0 0 0 0) f ln sl σ) (hf : ∀ a, ¬ a = 0 → ¬ z_un a → f a = 0) {d : Nat} {Q : z_St → Option z_V → Prop} (k : ∀ σ' f' ln' sl', z_cs L xs z_un (z_ei 7 5 5) (z_er 16 8 16 64 32) f' ln' sl' σ' → f' 1 = 276 → f' 80741649 = 276 → ln' ≤ ln + 1000 → sl' ≤ sl + 100000 → Q σ' none) : wp (zD (d + 3) 1 [.inr (.inr (some (0, 0)))] σ) Q := by
  refine wp_eq (c1 ..) (wp_eq (e1_0 ..) ?_)
  have q0 : ∀ a, ¬ a = 0 → ¬ z_un a → f a = 0 := hf
  have n1 : f 1 = 0 := hf 1 (by decide) (by unfold z_un; decide)
  have n8 : f 80741649 = 0 := hf 80741649 (by decide) (by unfold z_un; decide)
  have nr : ∀ a, ¬ (a = 0 ∨ a = 1 ∨ a = 80741649) → ¬ z_un a → f a = 0 := fun a ha hu => hf a (fun g => ha (.inl g)) hu
  have e1 : cn σ 1 + z_off 1 = 0 := by rw [h.2.2.2.1, n1]; rfl
  refine cs_T (d := d + 1) h n1 n8 (ei_T _) fun σ2 f2 h2 hf2 => wp_sw ?_
  rw [e1]
  have h2 := cs_R (FR := z_er 1 0 0 0 0) h2 (a := 0) (b := 0) (n := 0) (x := some (1, 0)) rfl (fun c d m q hn => er_st (fun d h hn => by unfold z_sd at h ⊢; omega) q hn)
  clear h
  replace n1 : f2 1 = 1 := by rw [hf2]; rfl
  replace n8 : f2 80741649 = 1 := by rw [hf2]; rfl
  replace nr : ∀ a, ¬ (a = 0 ∨ a = 1 ∨ a = 80741649) → ¬ z_un a → f2 a = 0 := fun a ha hu => by
    rw [hf2]
    unfold va_up
    rw [if_neg (fun g => ha (.inr (.inr g))), if_neg (fun g => ha (.inr (.inl g)))]
    exact nr a ha hu
  clear hf2 e1
  have h := h2
  clear h2
  generalize wR σ2 0 0 0 (some (1, 0)) = σ at h ⊢
  generalize f2 = f at *
  have e1 : cn σ 1 + z_off 1 = 1 := by rw [h.2.2.2.1, n1]; rfl
  refine cs_T (d := d + 1) h n1 n8 (ei_T _) fun σ2 f2 h2 hf2 => wp_sw ?_
  rw [e1]
  have h2 := cs_R (FR := z_er 2 0 0 0 0) h2 (a := 0) (b := 1) (n := 0) (x := some (1, 1)) rfl (fun c d m q hn => er_st (fun d h hn => by unfold z_sd at h ⊢; omega) q hn)
  clear h
  replace n1 : f2 1 = 2 := by rw [hf2]; rfl
  replace n8 : f2 80741649 = 2 := by rw [hf2]; rfl
  replace nr : ∀ a, ¬ (a = 0 ∨ a = 1 ∨ a = 80741649) → ¬ z_un a → f2 a = 0 := fun a ha hu => by
    rw [hf2]
    unfold va_up
    rw [if_neg (fun g => ha (.inr (.inr g))), if_neg (fun g => ha (.inr (.inl g)))]
    exact nr a ha hu
  clear hf2 e1
  have h := h2
  clear h2
  generalize wR σ2 0 1 0 (some (1, 1)) = σ at h ⊢
  generalize f2 = f at *
  have e1 : cn σ 1 + z_off 1 = 2 := by rw [h.2.2.2.1, n1]; rfl
  refine cs_T (d := d + 1) h n1 n8 (ei_T _) fun σ2 f2 h2 hf2 => wp_sw ?_
  rw [e1]
  have h2 := cs_R (FR := z_er 3 0 0 0 0) h2 (a := 0) (b := 2) (n := 0) (x := some (1, 2)) rfl (fun c d m q hn => er_st (fun d h hn => by unfold z_sd at h ⊢; omega) q hn)
  clear h
  replace n1 : f2 1 = 3 := by rw [hf2]; rfl
  replace n8 : f2 80741649 = 3 := by rw [hf2]; rfl
  replace nr : ∀ a, ¬ (a = 0 ∨ a = 1 ∨ a = 80741649) → ¬ z_un a → f2 a = 0 := fun a ha hu => by
    rw [hf2]
    unfold va_up
    rw [if_neg (fun g => ha (.inr (.inr g))), if_neg (fun g => ha (.inr (.inl g)))]
    exact nr a ha hu
  clear hf2 e1
  have h := h2
  clear h2
  generalize wR σ2 0 2 0 (some (1, 2)) = σ at h ⊢
  generalize f2 = f at *
  have e1 : cn σ 1 + z_off 1 = 3 := by rw [h.2.2.2.1, n1]; rfl
  refine cs_T (d := d + 1) h n1 n8 (ei_T _) fun σ2 f2 h2 hf2 => wp_sw ?_
  rw [e1]
  have h2 := cs_R (FR := z_er 4 0 0 0 0) h2 (a := 0) (b := 3) (n := 0) (x := some (1, 3)) rfl (fun c d m q hn => er_st (fun d h hn => by unfold z_sd at h ⊢; omega) q hn)
  clear h
  replace n1 : f2 1 = 4 := by rw [hf2]; rfl
  replace n8 : f2 80741649 = 4 := by rw [hf2]; rfl
  replace nr : ∀ a, ¬ (a = 0 ∨ a = 1 ∨ a = 80741649) → ¬ z_un a → f2 a = 0 := fun a ha hu => by
    rw [hf2]
    unfold va_up
    rw [if_neg (fun g => ha (.inr (.inr g))), if_neg (fun g => ha (.inr (.inl g)))]
    exact nr a ha hu
  clear hf2 e1
  have h := h2
  clear h2
  generalize wR σ2 0 3 0 (some (1, 3)) = σ at h ⊢
  generalize f2 = f at *
  have e2 : cn σ 2 + z_off 2 = 0 := by rw [h.2.2.2.1, nr 2 (by decide) (by unfold z_un; decide)]; rfl
  refine cs_P (d := d + 1) h (nr 2 (by decide) (by unfold z_un; decide)) (nr 79714193 (by decide) (by unfold z_un; decide)) fun σ2 f2 h2 hf2 => wp_sw ?_
  rw [e2]
  have h2 := cs_R (FR := z_er 5 0 0 0 0) h2 (a := 0) (b := 4) (n := 0) (x := some (2, 0)) rfl (fun c d m q hn => er_st (fun d h hn => by unfold z_sd at h ⊢; omega) q hn)
  clear h
  replace n1 : f2 1 = 4 := by rw [hf2]; exact n1
  replace n8 : f2 80741649 = 4 := by rw [hf2]; exact n8
  replace nr : ∀ a, ¬ (a = 0 ∨ a = 1 ∨ a = 80741649 ∨ a = 2 ∨ a = 79714193) → ¬ z_un a → f2 a = 0 := fun a ha hu => by
    rw [hf2]
    unfold va_up
    rw [if_neg (fun g => ha (.inr (.inr (.inr (.inr (g)))))), if_neg (fun g => ha (.inr (.inr (.inr (.inl g)))))]
    exact nr a (fun g => ha (g.elim .inl fun g => .inr (g.elim .inl fun g => .inr (.inl g)))) hu
  clear hf2 e2
  have h := h2
  clear h2
  generalize wR σ2 0 4 0 (some (2, 0)) = σ at h ⊢
  generalize f2 = f at *
  have e3 : cn σ 3 + z_off 3 = 0 := by rw [h.2.2.2.1, nr 3 (by decide) (by unfold z_un; decide)]; rfl
  refine cs_M (d := d) h (nr 3 (by decide) (by unfold z_un; decide)) (nr 75497658 (by decide) (by unfold z_un; decide)) (nr 76548624 (by decide) (by unfold z_un; decide)) (nr 77597200 (by decide) (by unfold z_un; decide)) (nr 78645776 (by decide) (by unfold z_un; decide)) (fun m g => by rcases g with q | q | q | q | q <;> exact absurd q.1 (by decide)) fun σ2 f2 h2 hf2 => wp_sw ?_
  rw [e3]
  have h2 := cs_R (FR := z_er 6 0 0 0 0) h2 (a := 0) (b := 5) (n := 0) (x := some (3, 0)) rfl (fun c d m q hn => er_st (fun d h hn => by unfold z_sd at h ⊢; omega) q hn)
  clear h
  replace n1 : f2 1 = 4 := by rw [hf2 1 (by decide)]; exact n1
  replace n8 : f2 80741649 = 4 := by rw [hf2 80741649 (by decide)]; exact n8
  replace nr : ∀ a, ¬ (a = 0 ∨ a = 1 ∨ a = 80741649 ∨ a = 2 ∨ a = 79714193 ∨ a = 3 ∨ a = 75497658 ∨ a = 76548624 ∨ a = 77597200 ∨ a = 78645776) → ¬ z_un a → f2 a = 0 := fun a ha hu => by
    rw [hf2 a (fun g => ha (.inr (.inr (.inr (.inr (.inr (g)))))))]
    exact nr a (fun g => ha (g.elim .inl fun g => .inr (g.elim .inl fun g => .inr (g.elim .inl fun g => .inr (g.elim .inl fun g => .inr (.inl g)))))) hu
  clear hf2 e3
  have h := h2
  clear h2
  generalize wR σ2 0 5 0 (some (3, 0)) = σ at h ⊢
  generalize f2 = f at *
  rw [show cn σ 1048852 + z_off 1048852 = 0 from by rw [h.2.2.2.1, nr 1048852 (by decide) (by unfold z_un; decide)]; rfl]
  have h2 := cs_A (V := z_un) (FI := z_ei 0 0 0) (FR := z_er 6 0 0 0 0) h (a := 1048852) (n := 0) (by decide) (fun m => .inr (mui_0 (by decide) _ _)) (fun m => er_1048852 _ m) (fun _ _ _ q => q) (fun _ _ _ q => q) (fun b hb => ⟨hb, fun e => by subst e; unfold z_un at hb; omega⟩)
  have h2 := cs_R (FR := z_er 7 0 0 0 0) h2 (a := 0) (b := 6) (n := 0) (x := some (1048852, 0)) rfl (fun c d m q hn => er_st (fun d h hn => by unfold z_sd at h ⊢; omega) q hn)
  refine wp_sw (wp_sw ?_)
  replace n1 : va_up f 1048852 (f 1048852 + 1) 1 = 4 := n1
  replace n8 : va_up f 1048852 (f 1048852 + 1) 80741649 = 4 := n8
  replace nr : ∀ a, ¬ (a = 0 ∨ a = 1 ∨ a = 80741649 ∨ a = 2 ∨ a = 79714193 ∨ a = 3 ∨ a = 75497658 ∨ a = 76548624 ∨ a = 77597200 ∨ a = 78645776 ∨ a = 1048852) → ¬ z_un a → va_up f 1048852 (f 1048852 + 1) a = 0 := fun a ha hu => by
    unfold va_up
    rw [if_neg (fun g => ha (.inr (.inr (.inr (.inr (.inr (.inr (.inr (.inr (.inr (.inr (g))))))))))))]
    exact nr a (fun g => ha (g.elim .inl fun g => .inr (g.elim .inl fun g => .inr (g.elim .inl fun g => .inr (g.elim .inl fun g => .inr (g.elim .inl fun g => .inr (g.elim .inl fun g => .inr (g.elim .inl fun g => .inr (g.elim .inl fun g => .inr (g.elim .inl fun g => .inr (.inl g))))))))))) hu
  clear h
  have h := h2
  clear h2
  generalize wR (nA σ 1048852 0) 0 6 0 (some (1048852, 0)) = σ at h ⊢
  generalize va_up f 1048852 (f 1048852 + 1) = f at *
  rw [show cn σ 2097301 + z_off 2097301 = 0 from by rw [h.2.2.2.1, nr 2097301 (by decide) (by unfold z_un; decide)]; rfl]
  have h2 := cs_A (V := z_un) (FI := z_ei 0 0 0) (FR := z_er 7 0 0 0 0) h (a := 2097301) (n := 0) (by decide) (fun m => .inr (mui_0 (by decide) _ _)) (fun m => er_2097301 _ m) (fun _ _ _ q => q) (fun _ _ _ q => q) (fun b hb => ⟨hb, fun e => by subst e; unfold z_un at hb; omega⟩)
  have h2 := cs_R (FR := z_er 9 0 0 0 0) h2 (a := 0) (b := 7) (n := 0) (x := some (2097301, 0)) rfl (fun c d m q hn => er_st (fun d h hn => by unfold z_sd at h ⊢; omega) q hn)
  refine wp_sw (wp_sw ?_)
  replace n1 : va_up f 2097301 (f 2097301 + 1) 1 = 4 := n1
  replace n8 : va_up f 2097301 (f 2097301 + 1) 80741649 = 4 := n8
  replace nr : ∀ a, ¬ (a = 0 ∨ a = 1 ∨ a = 80741649 ∨ a = 2 ∨ a = 79714193 ∨ a = 3 ∨ a = 75497658 ∨ a = 76548624 ∨ a = 77597200 ∨ a = 78645776 ∨ a = 1048852 ∨ a = 2097301) → ¬ z_un a → va_up f 2097301 (f 2097301 + 1) a = 0 := fun a ha hu => by
    unfold va_up
    rw [if_neg (fun g => ha (.inr (.inr (.inr (.inr (.inr (.inr (.inr (.inr (.inr (.inr (.inr (g)))))))))))))]
    exact nr a (fun g => ha (g.elim .inl fun g => .inr (g.elim .inl fun g => .inr (g.elim .inl fun g => .inr (g.elim .inl fun g => .inr (g.elim .inl fun g => .inr (g.elim .inl fun g => .inr (g.elim .inl fun g => .inr (g.elim .inl fun g => .inr (g.elim .inl fun g => .inr (g.elim .inl fun g => .inr (.inl g)))))))))))) hu
  clear h
  have h := h2
  clear h2
  generalize wR (nA σ 2097301 0) 0 7 0 (some (2097301, 0)) = σ at h ⊢
  generalize va_up f 2097301 (f 2097301 + 1) = f at *
  rw [show cn σ 3146262 + z_off 3146262 = 0 from by rw [h.2.2.2.1, nr 3146262 (by decide) (by unfold z_un; decide)]; rfl]
  have h2 := cs_A (V := z_un) (FI := z_ei 0 0 0) (FR := z_er 9 0 0 0 0) h (a := 3146262) (n := 0) (by decide) (fun m => .inr (mui_0 (by decide) _ _)) (fun m => er_3146262 _ m) (fun _ _ _ q => q) (fun _ _ _ q => q) (fun b hb => ⟨hb, fun e => by subst e; unfold z_un at hb; omega⟩)
  have h2 := cs_R (FR := z_er 11 0 0 0 0) h2 (a := 0) (b := 9) (n := 0) (x := some (3146262, 0)) rfl (fun c d m q hn => er_st (fun d h hn => by unfold z_sd at h ⊢; omega) q hn)
  refine wp_sw (wp_sw ?_)
  replace n1 : va_up f 3146262 (f 3146262 + 1) 1 = 4 := n1
  replace n8 : va_up f 3146262 (f 3146262 + 1) 80741649 = 4 := n8
  replace nr : ∀ a, ¬ (a = 0 ∨ a = 1 ∨ a = 80741649 ∨ a = 2 ∨ a = 79714193 ∨ a = 3 ∨ a = 75497658 ∨ a = 76548624 ∨ a = 77597200 ∨ a = 78645776 ∨ a = 1048852 ∨ a = 2097301 ∨ a = 3146262) → ¬ z_un a → va_up f 3146262 (f 3146262 + 1) a = 0 := fun a ha hu => by
    unfold va_up
    rw [if_neg (fun g => ha (.inr (.inr (.inr (.inr (.inr (.inr (.inr (.inr (.inr (.inr (.inr (.inr (g))))))))))))))]
    exact nr a (fun g => ha (g.elim .inl fun g => .inr (g.elim .inl fun g => .inr (g.elim .inl fun g => .inr (g.elim .inl fun g => .inr (g.elim .inl fun g => .inr (g.elim .inl fun g => .inr (g.elim .inl fun g => .inr (g.elim .inl fun g => .inr (g.elim .inl fun g => .inr (g.elim .inl fun g => .inr (g.elim .inl fun g => .inr (.inl g))))))))))))) hu
  clear h
  have h := h2
  clear h2
  generalize wR (nA σ 3146262 0) 0 9 0 (some (3146262, 0)) = σ at h ⊢
  generalize va_up f 3146262 (f 3146262 + 1) = f at *
  rw [show cn σ 4194839 + z_off 4194839 = 0 from by rw [h.2.2.2.1, nr 4194839 (by decide) (by unfold z_un; decide)]; rfl]
  have h2 := cs_A (V := z_un) (FI := z_ei 0 0 0) (FR := z_er 11 0 0 0 0) h (a := 4194839) (n := 0) (by decide) (fun m => .inr (mui_0 (by decide) _ _)) (fun m => er_4194839 _ m) (fun _ _ _ q => q) (fun _ _ _ q => q) (fun b hb => ⟨hb, fun e => by subst e; unfold z_un at hb; omega⟩)
  have h2 := cs_R (FR := z_er 13 0 0 0 0) h2 (a := 0) (b := 11) (n := 0) (x := some (4194839, 0)) rfl (fun c d m q hn => er_st (fun d h hn => by unfold z_sd at h ⊢; omega) q hn)
  refine wp_sw (wp_sw ?_)
  replace n1 : va_up f 4194839 (f 4194839 + 1) 1 = 4 := n1
  replace n8 : va_up f 4194839 (f 4194839 + 1) 80741649 = 4 := n8
  replace nr : ∀ a, ¬ (a = 0 ∨ a = 1 ∨ a = 80741649 ∨ a = 2 ∨ a = 79714193 ∨ a = 3 ∨ a = 75497658 ∨ a = 76548624 ∨ a = 77597200 ∨ a = 78645776 ∨ a = 1048852 ∨ a = 2097301 ∨ a = 3146262 ∨ a = 4194839) → ¬ z_un a → va_up f 4194839 (f 4194839 + 1) a = 0 := fun a ha hu => by
    unfold va_up
    rw [if_neg (fun g => ha (.inr (.inr (.inr (.inr (.inr (.inr (.inr (.inr (.inr (.inr (.inr (.inr (.inr (g)))))))))))))))]
    exact nr a (fun g => ha (g.elim .inl fun g => .inr (g.elim .inl fun g => .inr (g.elim .inl fun g => .inr (g.elim .inl fun g => .inr (g.elim .inl fun g => .inr (g.elim .inl fun g => .inr (g.elim .inl fun g => .inr (g.elim .inl fun g => .inr (g.elim .inl fun g => .inr (g.elim .inl fun g => .inr (g.elim .inl fun g => .inr (g.elim .inl fun g => .inr (.inl g)))))))))))))) hu
  clear h
  have h := h2
  clear h2
  generalize wR (nA σ 4194839 0) 0 11 0 (some (4194839, 0)) = σ at h ⊢
  generalize va_up f 4194839 (f 4194839 + 1) = f at *
  rw [show cn σ 5244952 + z_off 5244952 = 0 from by rw [h.2.2.2.1, nr 5244952 (by decide) (by unfold z_un; decide)]; rfl]
  have h2 := cs_A (V := z_un) (FI := z_ei 0 0 0) (FR := z_er 13 0 0 0 0) h (a := 5244952) (n := 0) (by decide) (fun m => .inr (mui_0 (by decide) _ _)) (fun m => er_5244952 _ m) (fun _ _ _ q => q) (fun _ _ _ q => q) (fun b hb => ⟨hb, fun e => by subst e; unfold z_un at hb; omega⟩)
  have h2 := cs_R (FR := z_er 15 0 0 0 0) h2 (a := 0) (b := 13) (n := 0) (x := some (5244952, 0)) rfl (fun c d m q hn => er_st (fun d h hn => by unfold z_sd at h ⊢; omega) q hn)
  refine wp_sw (wp_sw ?_)
  replace n1 : va_up f 5244952 (f 5244952 + 1) 1 = 4 := n1
  replace n8 : va_up f 5244952 (f 5244952 + 1) 80741649 = 4 := n8
  replace nr : ∀ a, ¬ (a = 0 ∨ a = 1 ∨ a = 80741649 ∨ a = 2 ∨ a = 79714193 ∨ a = 3 ∨ a = 75497658 ∨ a = 76548624 ∨ a = 77597200 ∨ a = 78645776 ∨ a = 1048852 ∨ a = 2097301 ∨ a = 3146262 ∨ a = 4194839 ∨ a = 5244952) → ¬ z_un a → va_up f 5244952 (f 5244952 + 1) a = 0 := fun a ha hu => by
    unfold va_up
    rw [if_neg (fun g => ha (.inr (.inr (.inr (.inr (.inr (.inr (.inr (.inr (.inr (.inr (.inr (.inr (.inr (.inr (g))))))))))))))))]
    exact nr a (fun g => ha (g.elim .inl fun g => .inr (g.elim .inl fun g => .inr (g.elim .inl fun g => .inr (g.elim .inl fun g => .inr (g.elim .inl fun g => .inr (g.elim .inl fun g => .inr (g.elim .inl fun g => .inr (g.elim .inl fun g => .inr (g.elim .inl fun g => .inr (g.elim .inl fun g => .inr (g.elim .inl fun g => .inr (g.elim .inl fun g => .inr (g.elim .inl fun g => .inr (.inl g))))))))))))))) hu
  clear h
  have h := h2
  clear h2
  generalize wR (nA σ 5244952 0) 0 13 0 (some (5244952, 0)) = σ at h ⊢
  generalize va_up f 5244952 (f 5244952 + 1) = f at *
  rw [show cn σ 6292505 + z_off 6292505 = 0 from by rw [h.2.2.2.1, nr 6292505 (by decide) (by unfold z_un; decide)]; rfl]
  have h2 := cs_A (V := z_un) (FI := z_ei 0 0 0) (FR := z_er 15 0 0 0 0) h (a := 6292505) (n := 0) (by decide) (fun m => .inr (mui_0 (by decide) _ _)) (fun m => er_6292505 _ m) (fun _ _ _ q => q) (fun _ _ _ q => q) (fun b hb => ⟨hb, fun e => by subst e; unfold z_un at hb; omega⟩)
  have h2 := cs_R (FR := z_er 16 0 0 0 0) h2 (a := 0) (b := 15) (n := 0) (x := some (6292505, 0)) rfl (fun c d m q hn => er_st (fun d h hn => by unfold z_sd at h ⊢; omega) q hn)
  refine wp_sw (wp_sw ?_)
  replace n1 : va_up f 6292505 (f 6292505 + 1) 1 = 4 := n1
  replace n8 : va_up f 6292505 (f 6292505 + 1) 80741649 = 4 := n8
  replace nr : ∀ a, ¬ (a = 0 ∨ a = 1 ∨ a = 80741649 ∨ a = 2 ∨ a = 79714193 ∨ a = 3 ∨ a = 75497658 ∨ a = 76548624 ∨ a = 77597200 ∨ a = 78645776 ∨ a = 1048852 ∨ a = 2097301 ∨ a = 3146262 ∨ a = 4194839 ∨ a = 5244952 ∨ a = 6292505) → ¬ z_un a → va_up f 6292505 (f 6292505 + 1) a = 0 := fun a ha hu => by
    unfold va_up
    rw [if_neg (fun g => ha (.inr (.inr (.inr (.inr (.inr (.inr (.inr (.inr (.inr (.inr (.inr (.inr (.inr (.inr (.inr (g)))))))))))))))))]
    exact nr a (fun g => ha (g.elim .inl fun g => .inr (g.elim .inl fun g => .inr (g.elim .inl fun g => .inr (g.elim .inl fun g => .inr (g.elim .inl fun g => .inr (g.elim .inl fun g => .inr (g.elim .inl fun g => .inr (g.elim .inl fun g => .inr (g.elim .inl fun g => .inr (g.elim .inl fun g => .inr (g.elim .inl fun g => .inr (g.elim .inl fun g => .inr (g.elim .inl fun g => .inr (g.elim .inl fun g => .inr (.inl g)))))))))))))))) hu
  clear h
  have h := h2
  clear h2
  generalize wR (nA σ 6292505 0) 0 15 0 (some (6292505, 0)) = σ at h ⊢
  generalize va_up f 6292505 (f 6292505 + 1) = f at *
  have rp : gR σ 0 1 0 = some (1, 1) := h.2.2.1 0 1 0 (er_0 (by unfold z_sd; omega))
  refine wp_dr rp (wp_gd rfl (wp_cv (cs_set1 (d := d) h er_1 fun σ h => ⟨rfl, ?_⟩)))
  have rp : gR σ 0 2 0 = some (1, 2) := h.2.2.1 0 2 0 (er_0 (by unfold z_sd; omega))
  refine wp_dr rp (wp_gd rfl (wp_cv (cs_set2 (d := d) h er_1 fun σ h => ⟨rfl, ?_⟩)))
  have rp : gR σ 0 3 0 = some (1, 3) := h.2.2.1 0 3 0 (er_0 (by unfold z_sd; omega))
  refine wp_dr rp (wp_gd rfl (wp_cv (cs_set3 (d := d) h er_1 fun σ h => ⟨rfl, ?_⟩)))
  refine xl_links 8 0 σ f _ _ rfl (cs_mono h (fun _ _ _ q => q) (fun _ _ _ q => q)) (nr 4 (by decide) (by unfold z_un; decide)) (nr 73419537 (by decide) (by unfold z_un; decide)) (nr 74512913 (by decide) (by unfold z_un; decide)) fun σ1 f1 h1 o1 => ?_
  refine wp_eq (e1_3 ..) (xl_sess0 16 0 σ1 f1 _ _ rfl h1 (by rw [o1 5 (by decide)]; exact nr 5 (by decide) (by unfold z_un; decide)) (by rw [o1 1 (by decide)]; exact n1) (by rw [o1 80741649 (by decide)]; exact n8) fun σ2 f2 h2 m1 m8 o2 => ?_)
  refine wp_eq (e1_6 ..) (xl_asks0 64 0 σ2 f2 _ _ rfl h2 (by rw [o2 6 (by decide), o1 6 (by decide)]; exact nr 6 (by decide) (by unfold z_un; decide)) m1 m8 fun σ3 f3 h3 l1 l8 o3 => ?_)
  refine wp_eq (e1_9 ..) (xl_keeps0 32 0 σ3 f3 _ _ rfl h3 (by rw [o3 7 (by decide), o2 7 (by decide), o1 7 (by decide)]; exact nr 7 (by decide) (by unfold z_un; decide)) (by rw [o3 72361361 (by decide), o2 72361361 (by decide), o1 72361361 (by decide)]; exact nr 72361361 (by decide) (by unfold z_un; decide)) l1 l8 fun σ4 f4 h4 j1 j8 => ?_)
  have y1 := alen_1048852
  have y2 := alen_2097301
  have y3 := alen_3146262
  have y4 := alen_4194839
  have y5 := alen_5244952
  have y6 := alen_6292505
  refine wp_eq (e1_12 ..) (wp_ret (k σ4 f4 _ _ h4 j1 j8 ?_ ?_))
  · clear h h1 h2 h3 h4 n1 n8 nr m1 m8 l1 l8 j1 j8 o1 o2 o3 rp q0 hf
    omega
  · clear h h1 h2 h3 h4 n1 n8 nr m1 m8 l1 l8 j1 j8 o1 o2 o3 rp q0 hf
    omega
