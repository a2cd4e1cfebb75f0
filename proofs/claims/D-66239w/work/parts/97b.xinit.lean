/-! PART 97b (src 97b.xinit.src, printed by wip/gen/g97b.py): the component is made -/
set_option maxHeartbeats 1600000
set_option maxRecDepth 10000
def z_er (s k4 k5 k6 k7 : Nat) (c d m : Nat) : Prop := (c = 0 ∧ m = 0 ∧ s ≤ d ∧ d < 16) ∨ (c = 1048852 ∧ d = 0 ∧ k4 ≤ m ∧ m < 8) ∨ (c = 4194839 ∧ d = 0 ∧ k5 ≤ m ∧ m < 16) ∨ (c = 5244952 ∧ d = 0 ∧ k6 ≤ m ∧ m < 64) ∨ (c = 6292505 ∧ d = 0 ∧ k7 ≤ m ∧ m < 32)
def z_ei (a1 a2 a3 : Nat) (c d m : Nat) : Prop := (c = 1 ∧ d = 1 ∧ ((m = 1 ∧ a1 < 7) ∨ (m = 2 ∧ a2 < 5) ∨ (m = 3 ∧ a3 < 5))) ∨ (c = 80741649 ∧ ((d = 1 ∧ a1 ≤ m ∧ m < 6) ∨ (d = 2 ∧ a2 ≤ m ∧ m < 4) ∨ (d = 3 ∧ a3 ≤ m ∧ m < 4)))
theorem getD_0 {l : List Int32} {m : Nat} (h : l.length ≤ m) : l.getD m 0 = 0 := by
  rw [List.getD_eq_getElem?_getD, List.getElem?_eq_none h]
  rfl
theorem ei_T {xs : Nat → Int32} (t : Nat) : (∀ d, z_ei 0 0 0 1 d t ∨ z_mui xs 1 d t = 0) ∧ ∀ m, z_ei 0 0 0 80741649 t m ∨ z_mui xs 80741649 t m = 0 := by
  by_cases h : 1 ≤ t ∧ t ≤ 3
  · refine ⟨fun d => ?_, fun m => ?_⟩
    · by_cases e : d = 1
      · left; unfold z_ei; omega
      · right; unfold z_mui; rw [if_neg (by decide), if_pos rfl, if_neg e]
    · by_cases e : (t = 1 ∧ m < 6) ∨ (t = 2 ∧ m < 4) ∨ (t = 3 ∧ m < 4)
      · left; unfold z_ei; omega
      · right
        unfold z_mui
        rw [if_neg (by decide), if_neg (by decide), if_pos rfl]
        split
        · exact getD_0 (by show 6 ≤ m; omega)
        split
        · exact getD_0 (by show 4 ≤ m; omega)
        split
        · exact getD_0 (by show 4 ≤ m; omega)
        · rfl
  · exact ⟨fun d => .inr ((mui_T h).1 d), fun m => .inr ((mui_T h).2 m)⟩
theorem cs_P {L : Nat} {xs : Nat → Int32} {EI ER : Nat → Nat → Nat → Prop} {f : Nat → Nat} {ln sl : Nat} {σ : z_St} (h : z_cs L xs z_un EI ER f ln sl σ) (h2 : f 2 = 0) (h7 : f 79714193 = 0) {d : Nat} {F : z_St → Option z_R} {Q : z_St → Option z_V → Prop} (k : ∀ σ2 f2, z_cs L xs z_un EI ER f2 (ln + 2) (sl + 702) σ2 → f2 = va_up (va_up f 2 1) 79714193 1 → wp (F σ2) Q) : wp (sw (nO σ 2 (cn σ 2 + z_off 2)) fun σ1 => cv (zD (d + 1) 216 [.inr (.inr (some (2, cn σ 2 + z_off 2)))] σ1) F) Q := by
  have e0 : cn σ 2 + z_off 2 = 0 := by rw [h.2.2.2.1, h2]; rfl
  rw [e0]
  have e8 : cn (nO σ 2 0) 79714193 + z_off 79714193 = 0 := by
    show va_up (cn σ) 2 _ 79714193 + z_off 79714193 = 0
    rw [h.2.2.2.1]
    exact h7
  refine wp_sw (wp_cv (wp_eq (c216 ..) (wp_eq (e216_0 ..) (wp_sw (wp_sw (wp_ret ⟨rfl, ?_⟩))))))
  rw [e8]
  have a1 := cs_O (V := z_un) (FI := EI) (FR := fun c d m => ER c d m ∨ (c = 2 ∧ d = 0 ∧ m = 0)) h (a := 2) (n := 0) (by decide) (fun d => .inr (mui_0 (by decide) _ _)) (fun d => by
    by_cases e : d = 0
    · exact .inl (.inr ⟨rfl, e, rfl⟩)
    · right
      unfold z_mur
      rw [if_neg (by decide), if_neg (by decide), if_pos rfl, if_neg (fun g => e g.1)]) (fun _ _ _ q => q) (fun _ _ _ q => .inl q) (fun b hb => ⟨hb, fun e => by subst e; unfold z_un at hb; omega⟩)
  have a2 := cs_A (V := z_un) (FI := EI) (FR := fun c d m => ER c d m ∨ (c = 2 ∧ d = 0 ∧ m = 0)) a1 (a := 79714193) (n := 0) (by decide) (fun m => .inr (mui_0 (by decide) _ _)) (fun m => .inr (mur_0 (by decide) _ _)) (fun _ _ _ q => q) (fun _ _ _ q => q) (fun b hb => ⟨hb, fun e => by subst e; unfold z_un at hb; omega⟩)
  have a3 := cs_R (FR := ER) a2 (a := 2) (b := 0) (n := 0) (x := some (79714193, 0)) rfl (fun c d m q hn => q.elim id (fun g => absurd g hn))
  have e1 : sl + oN 2 + aLen 79714193 = sl + 702 := by
    have g1 := alen_79714193
    have g2 : oN 2 = 2 := rfl
    omega
  rw [e1] at a3
  refine k _ _ a3 ?_
  rw [h2, show va_up f 2 (0 + 1) 79714193 = 0 from h7]
theorem c247 (d : Nat) (σ : z_St) : zD (d + 1) 247 [] σ = some (rR (nA σ 75497658 (cn σ 75497658 + z_off 75497658)) 75497658 (cn σ 75497658 + z_off 75497658) (fun i => if i < 5 then some (12, i) else none), some (.inr (.inr (some (75497658, cn σ 75497658 + z_off 75497658))))) :=
  (show zD (d + 1) 247 [] σ = E xP247 (zD d) 0 [] [] σ from rfl).trans ((E_fix (pg247 ▸ pg_tame 247) (zm d) 0 _ _ _).trans rfl)
theorem cs_RR {L : Nat} {xs : Nat → Int32} {U : Nat → Prop} {EI ER : Nat → Nat → Nat → Prop} {f : Nat → Nat} {ln sl : Nat} {σ : z_St} (h : z_cs L xs U EI ER f ln sl σ) {a b : Nat} {r : Nat → Option z_Ad} (hr : ∀ m, r m = z_mur a b m) : z_cs L xs U EI ER f ln sl (rR σ a b r) := by
  obtain ⟨h1, h2, h3, h4, h5, h6, h7⟩ := h
  refine ⟨fun c d m g => h1 c d m g, fun c d m => h2 c d m, fun c d m g => ?_, h4, h5, h6, h7⟩
  rw [hR_rR]
  by_cases e : c = a ∧ d = b
  · rw [if_pos e, hr, e.1, e.2]
  · rw [if_neg e]
    exact h3 c d m g
theorem mur_3 {d : Nat} (h0 : ¬ d = 0) (h8 : ¬ d = 8) (h9 : ¬ d = 9) (h10 : ¬ d = 10) : z_mur 3 d 0 = none := by
  unfold z_mur
  rw [if_neg (by decide), if_neg (by decide), if_neg (by decide), if_pos rfl, if_pos rfl, if_neg h0, if_neg h8, if_neg h9, if_neg h10]
theorem cs_M {L : Nat} {xs : Nat → Int32} {EI ER : Nat → Nat → Nat → Prop} {f : Nat → Nat} {ln sl : Nat} {σ : z_St} (h : z_cs L xs z_un EI ER f ln sl σ) (h0 : f 3 = 0) (h1 : f 75497658 = 0) (h2 : f 76548624 = 0) (h3 : f 77597200 = 0) (h4 : f 78645776 = 0) (hER : ∀ m, ¬ ER 75497658 0 m) {d : Nat} {F : z_St → Option z_R} {Q : z_St → Option z_V → Prop} (k : ∀ σ2 f2, z_cs L xs z_un EI ER f2 (ln + 5) (sl + 260) σ2 → (∀ a, ¬ (a = 3 ∨ a = 75497658 ∨ a = 76548624 ∨ a = 77597200 ∨ a = 78645776) → f2 a = f a) → wp (F σ2) Q) : wp (sw (nO σ 3 (cn σ 3 + z_off 3)) fun σ1 => cv (zD (d + 2) 196 [.inr (.inr (some (3, cn σ 3 + z_off 3)))] σ1) F) Q := by
  have e0 : cn σ 3 + z_off 3 = 0 := by rw [h.2.2.2.1, h0]; rfl
  rw [e0]
  have e1 : cn (nO σ 3 0) 75497658 + z_off 75497658 = 0 := by
    show va_up (cn σ) 3 _ 75497658 + z_off 75497658 = 0
    rw [h.2.2.2.1]
    exact h1
  have hU : ∀ b, z_un b → z_un b ∧ ¬ b = 3 := fun b hb => ⟨hb, fun e => by subst e; unfold z_un at hb; omega⟩
  have a1 := cs_O (V := z_un) (FI := EI) (FR := fun c d m => ER c d m ∨ (c = 3 ∧ m = 0 ∧ (d = 0 ∨ 8 ≤ d ∧ d ≤ 10))) h (a := 3) (n := 0) (by decide) (fun d => .inr (mui_0 (by decide) _ _)) (fun d => by
    by_cases e : d = 0 ∨ 8 ≤ d ∧ d ≤ 10
    · exact .inl (.inr ⟨rfl, rfl, e⟩)
    · exact .inr (mur_3 (by omega) (by omega) (by omega) (by omega))) (fun _ _ _ q => q) (fun _ _ _ q => .inl q) hU
  have a2 := cs_A (V := z_un) (FI := EI) (FR := fun c d m => ER c d m ∨ (c = 3 ∧ m = 0 ∧ (d = 0 ∨ 8 ≤ d ∧ d ≤ 10)) ∨ (c = 75497658 ∧ d = 0)) a1 (a := 75497658) (n := 0) (by decide) (fun m => .inr (mui_0 (by decide) _ _)) (fun m => .inl (.inr (.inr ⟨rfl, rfl⟩))) (fun _ _ _ q => q) (fun _ _ _ q => q.elim .inl (fun g => .inr (.inl g))) (fun b hb => ⟨hb, fun e => by subst e; unfold z_un at hb; omega⟩)
  have a3 : z_cs L xs z_un EI (fun c d m => ER c d m ∨ (c = 3 ∧ m = 0 ∧ (d = 0 ∨ 8 ≤ d ∧ d ≤ 10))) _ _ _ (rR (nA (nO σ 3 0) 75497658 0) 75497658 0 (fun i => if i < 5 then some (12, i) else none)) := by
    obtain ⟨g1, g2, g3, g4, g5, g6, g7⟩ := a2
    refine ⟨fun c d m g => g1 c d m g, fun c d m => g2 c d m, fun c d m g => ?_, g4, g5, g6, g7⟩
    rw [hR_rR]
    by_cases e : c = 75497658 ∧ d = 0
    · rw [if_pos e, e.1, e.2]
      unfold z_mur
      rw [if_neg (by decide), if_neg (by decide), if_neg (by decide), if_neg (by decide), if_neg (by decide), if_neg (by decide), if_neg (by decide), if_neg (by decide), if_neg (by decide), if_pos rfl]
      by_cases q : m < 5
      · rw [if_pos q, if_pos ⟨rfl, q⟩]
      · rw [if_neg q, if_neg (fun g => q g.2)]
    · rw [if_neg e]
      exact g3 c d m (fun q => q.elim (fun q => g (.inl q)) (fun q => q.elim (fun q => g (.inr q)) e))
  refine wp_sw (wp_cv (wp_eq (c196 ..) (wp_eq (e196_0 ..) (wp_cr (wp_eq (c247 ..) ?_)))))
  rw [e1]
  refine wp_ret ⟨_, rfl, wp_asR0 (wp_sw ?_)⟩
  have f1 : ∀ a, ¬ (a = 3 ∨ a = 75497658 ∨ a = 76548624 ∨ a = 77597200 ∨ a = 78645776) → va_up (va_up f 3 (f 3 + 1)) 75497658 (va_up f 3 (f 3 + 1) 75497658 + 1) a = f a := fun a ha => by
    unfold va_up
    rw [if_neg (fun g => ha (.inr (.inl g))), if_neg (fun g => ha (.inl g))]
  have f2 : va_up (va_up f 3 (f 3 + 1)) 75497658 (va_up f 3 (f 3 + 1) 75497658 + 1) 76548624 = 0 := h2
  have f3 : va_up (va_up f 3 (f 3 + 1)) 75497658 (va_up f 3 (f 3 + 1) 75497658 + 1) 77597200 = 0 := h3
  have f4 : va_up (va_up f 3 (f 3 + 1)) 75497658 (va_up f 3 (f 3 + 1) 75497658 + 1) 78645776 = 0 := h4
  generalize va_up (va_up f 3 (f 3 + 1)) 75497658 (va_up f 3 (f 3 + 1) 75497658 + 1) = f' at *
  have a4 := cs_R (FR := fun c d m => ER c d m ∨ (c = 3 ∧ m = 0 ∧ 8 ≤ d ∧ d ≤ 10)) a3 (a := 3) (b := 0) (n := 0) (x := some (75497658, 0)) rfl (fun c d m q hn => q.elim .inl (fun g => .inr (by omega)))
  generalize wR (rR (nA (nO σ 3 0) 75497658 0) 75497658 0 (fun i => if i < 5 then some (12, i) else none)) 3 0 0 (some (75497658, 0)) = s4 at a4 ⊢
  rw [show cn s4 76548624 + z_off 76548624 = 0 from by rw [a4.2.2.2.1]; exact f2]
  have a5 := cs_A (V := z_un) (FI := EI) (FR := fun c d m => ER c d m ∨ (c = 3 ∧ m = 0 ∧ 8 ≤ d ∧ d ≤ 10)) a4 (a := 76548624) (n := 0) (by decide) (fun m => .inr (mui_0 (by decide) _ _)) (fun m => .inr (mur_0 (by decide) _ _)) (fun _ _ _ q => q) (fun _ _ _ q => q) (fun b hb => ⟨hb, fun e => by subst e; unfold z_un at hb; omega⟩)
  have a6 := cs_R (FR := fun c d m => ER c d m ∨ (c = 3 ∧ m = 0 ∧ 9 ≤ d ∧ d ≤ 10)) a5 (a := 3) (b := 8) (n := 0) (x := some (76548624, 0)) rfl (fun c d m q hn => q.elim .inl (fun g => .inr (by omega)))
  refine wp_sw (wp_sw ?_)
  generalize wR (nA s4 76548624 0) 3 8 0 (some (76548624, 0)) = s6 at a6 ⊢
  rw [show cn s6 77597200 + z_off 77597200 = 0 from by rw [a6.2.2.2.1]; exact f3]
  have a7 := cs_A (V := z_un) (FI := EI) (FR := fun c d m => ER c d m ∨ (c = 3 ∧ m = 0 ∧ 9 ≤ d ∧ d ≤ 10)) a6 (a := 77597200) (n := 0) (by decide) (fun m => .inr (mui_0 (by decide) _ _)) (fun m => .inr (mur_0 (by decide) _ _)) (fun _ _ _ q => q) (fun _ _ _ q => q) (fun b hb => ⟨hb, fun e => by subst e; unfold z_un at hb; omega⟩)
  have a8 := cs_R (FR := fun c d m => ER c d m ∨ (c = 3 ∧ m = 0 ∧ d = 10)) a7 (a := 3) (b := 9) (n := 0) (x := some (77597200, 0)) rfl (fun c d m q hn => q.elim .inl (fun g => .inr (by omega)))
  refine wp_sw (wp_sw ?_)
  generalize wR (nA s6 77597200 0) 3 9 0 (some (77597200, 0)) = s8 at a8 ⊢
  rw [show cn s8 78645776 + z_off 78645776 = 0 from by rw [a8.2.2.2.1]; exact f4]
  have a9 := cs_A (V := z_un) (FI := EI) (FR := fun c d m => ER c d m ∨ (c = 3 ∧ m = 0 ∧ d = 10)) a8 (a := 78645776) (n := 0) (by decide) (fun m => .inr (mui_0 (by decide) _ _)) (fun m => .inr (mur_0 (by decide) _ _)) (fun _ _ _ q => q) (fun _ _ _ q => q) (fun b hb => ⟨hb, fun e => by subst e; unfold z_un at hb; omega⟩)
  have b0 := cs_R (FR := ER) a9 (a := 3) (b := 10) (n := 0) (x := some (78645776, 0)) rfl (fun c d m q hn => q.elim id (fun g => absurd ⟨g.1, g.2.2, g.2.1⟩ hn))
  have e9 : sl + oN 3 + aLen 75497658 + aLen 76548624 + aLen 77597200 + aLen 78645776 = sl + 260 := by
    have g1 := alen_75497658
    have g2 := alen_76548624
    have g3 := alen_77597200
    have g4 := alen_78645776
    have g5 : oN 3 = 15 := rfl
    omega
  rw [e9] at b0
  refine wp_sw (wp_sw (wp_ret ⟨rfl, k _ _ b0 fun a ha => ?_⟩))
  unfold va_up
  rw [if_neg (fun g => ha (.inr (.inr (.inr (.inr g))))), if_neg (fun g => ha (.inr (.inr (.inr (.inl g))))), if_neg (fun g => ha (.inr (.inr (.inl g))))]
  exact f1 a ha
theorem cs_add {L : Nat} {xs : Nat → Int32} {U : Nat → Prop} {EI ER FI : Nat → Nat → Nat → Prop} {f : Nat → Nat} {ln sl : Nat} {σ : z_St} {t n : Nat} (h : z_cs L xs U EI ER f ln sl σ) (hs : gI σ 1 1 t = Int32.ofNat n) (hn : n < 40) (hp : ¬ ER 1 0 t) (he : EI 1 1 t) {x : Int32} (hx : nb x = z_mui xs 80741649 t n) (m : ∀ c d m, EI c d m → ¬ (c = 80741649 ∧ d = t ∧ m = n) → FI c d m) {d : Nat} {F : z_St → Option z_R} {Q : z_St → Option z_V → Prop} (k : ∀ σ', z_cs L xs U FI ER f ln sl σ' → gI σ' 1 1 t = Int32.ofNat (n + 1) → wp (F σ') Q) : wp (cv (zD (d + 1) 240 [.inr (.inr (some (1, t))), .inl x] σ) F) Q := by
  have rp : gR σ 1 0 t = some (80741649, t) := (h.2.2.1 1 0 t hp).trans (by
    unfold z_mur
    rw [if_neg (by decide), if_pos rfl, if_pos rfl])
  refine wp_cv (wp_eq (c240 ..) (wp_eq (e240_0 ..) (wp_sw (wp_dr rp (wp_gd aty_80741649 (wp_gd ?_ (wp_sw (wp_ret ⟨rfl, ?_⟩))))))))
  · rw [hs]
    show zin (Int32.ofNat n) (aLen 80741649)
    rw [alen_80741649]
    exact zin_io hn (by decide)
  · dsimp only
    rw [hs, io_add_l, io_nat (by omega), nb_un, nb_un, nb_nb]
    have a1 := cs_I (FI := EI) h (a := 1) (b := 1) (n := t) (x := Int32.ofNat (n + 1)) (.inr he) (fun _ _ _ q _ => q)
    have a2 := cs_I (FI := FI) a1 (a := 80741649) (b := t) (n := n) (x := nb x) (.inl hx) m
    refine k _ a2 ?_
    rw [gI_wI, if_neg (fun g => absurd g.1 (by decide)), gI_wI, if_pos ⟨rfl, rfl, rfl⟩]
theorem cs_set1 {L : Nat} {xs : Nat → Int32} {U : Nat → Prop} {ER : Nat → Nat → Nat → Prop} {f : Nat → Nat} {ln sl : Nat} {σ : z_St} (h : z_cs L xs U (z_ei 0 0 0) ER f ln sl σ) (hp : ¬ ER 1 0 1) {d : Nat} {Q : z_St → Option z_V → Prop} (k : ∀ σ', z_cs L xs U (z_ei 7 0 0) ER f ln sl σ' → Q σ' none) : wp (zD (d + 2) 246 [.inr (.inr (some (1, 1))), .inl 109, .inl 46, .inl 104, .inl 111, .inl 109, .inl 101] σ) Q := by
  refine wp_eq (c246 ..) (wp_eq (e246_0 ..) (wp_cv (wp_eq (c239 ..) (wp_eq (e239_0 ..) (wp_sw (wp_ret ⟨rfl, ?_⟩))))))
  have h := cs_I (FI := z_ei 0 0 0) h (a := 1) (b := 1) (n := 1) (x := 0) (.inr (by unfold z_ei; omega)) (fun _ _ _ q _ => q)
  have hs : gI (wI σ 1 1 1 0) 1 1 1 = Int32.ofNat 0 := by rw [gI_wI, if_pos ⟨rfl, rfl, rfl⟩]; rfl
  generalize wI σ 1 1 1 0 = σ at h hs ⊢
  refine cs_add (FI := z_ei 1 0 0) h hs (by decide) hp (by unfold z_ei; omega) ((by decide : nb 109 = 109).trans rfl) (fun c d m q hn => by unfold z_ei at q ⊢; omega) fun σ h hs => ?_
  refine cs_add (FI := z_ei 2 0 0) h hs (by decide) hp (by unfold z_ei; omega) ((by decide : nb 46 = 46).trans rfl) (fun c d m q hn => by unfold z_ei at q ⊢; omega) fun σ h hs => ?_
  refine cs_add (FI := z_ei 3 0 0) h hs (by decide) hp (by unfold z_ei; omega) ((by decide : nb 104 = 104).trans rfl) (fun c d m q hn => by unfold z_ei at q ⊢; omega) fun σ h hs => ?_
  refine cs_add (FI := z_ei 4 0 0) h hs (by decide) hp (by unfold z_ei; omega) ((by decide : nb 111 = 111).trans rfl) (fun c d m q hn => by unfold z_ei at q ⊢; omega) fun σ h hs => ?_
  refine wp_if (fun g => absurd g (by decide)) (fun _ => wp_eq (e246_2 ..) ?_)
  refine cs_add (FI := z_ei 5 0 0) h hs (by decide) hp (by unfold z_ei; omega) ((by decide : nb 109 = 109).trans rfl) (fun c d m q hn => by unfold z_ei at q ⊢; omega) fun σ h hs => ?_
  refine cs_add (FI := z_ei 6 0 0) h hs (by decide) hp (by unfold z_ei; omega) ((by decide : nb 101 = 101).trans rfl) (fun c d m q hn => by unfold z_ei at q ⊢; omega) fun σ h hs => ?_
  refine wp_ret (k σ (cs_cl h (a := 1) (b := 1) (n := 1) (hs.trans ?_) (fun c d m q hn => by unfold z_ei at q ⊢; omega)))
  rfl
theorem cs_set2 {L : Nat} {xs : Nat → Int32} {U : Nat → Prop} {ER : Nat → Nat → Nat → Prop} {f : Nat → Nat} {ln sl : Nat} {σ : z_St} (h : z_cs L xs U (z_ei 7 0 0) ER f ln sl σ) (hp : ¬ ER 1 0 2) {d : Nat} {Q : z_St → Option z_V → Prop} (k : ∀ σ', z_cs L xs U (z_ei 7 5 0) ER f ln sl σ' → Q σ' none) : wp (zD (d + 2) 246 [.inr (.inr (some (1, 2))), .inl 104, .inl 111, .inl 109, .inl 101, .inl 0, .inl 0] σ) Q := by
  refine wp_eq (c246 ..) (wp_eq (e246_0 ..) (wp_cv (wp_eq (c239 ..) (wp_eq (e239_0 ..) (wp_sw (wp_ret ⟨rfl, ?_⟩))))))
  have h := cs_I (FI := z_ei 7 0 0) h (a := 1) (b := 1) (n := 2) (x := 0) (.inr (by unfold z_ei; omega)) (fun _ _ _ q _ => q)
  have hs : gI (wI σ 1 1 2 0) 1 1 2 = Int32.ofNat 0 := by rw [gI_wI, if_pos ⟨rfl, rfl, rfl⟩]; rfl
  generalize wI σ 1 1 2 0 = σ at h hs ⊢
  refine cs_add (FI := z_ei 7 1 0) h hs (by decide) hp (by unfold z_ei; omega) ((by decide : nb 104 = 104).trans rfl) (fun c d m q hn => by unfold z_ei at q ⊢; omega) fun σ h hs => ?_
  refine cs_add (FI := z_ei 7 2 0) h hs (by decide) hp (by unfold z_ei; omega) ((by decide : nb 111 = 111).trans rfl) (fun c d m q hn => by unfold z_ei at q ⊢; omega) fun σ h hs => ?_
  refine cs_add (FI := z_ei 7 3 0) h hs (by decide) hp (by unfold z_ei; omega) ((by decide : nb 109 = 109).trans rfl) (fun c d m q hn => by unfold z_ei at q ⊢; omega) fun σ h hs => ?_
  refine cs_add (FI := z_ei 7 4 0) h hs (by decide) hp (by unfold z_ei; omega) ((by decide : nb 101 = 101).trans rfl) (fun c d m q hn => by unfold z_ei at q ⊢; omega) fun σ h hs => ?_
  refine wp_if (fun _ => wp_eq (e246_1 ..) ?_) (fun g => absurd rfl g)
  refine wp_ret (k σ (cs_cl h (a := 1) (b := 1) (n := 2) (hs.trans ?_) (fun c d m q hn => by unfold z_ei at q ⊢; omega)))
  rfl
theorem cs_set3 {L : Nat} {xs : Nat → Int32} {U : Nat → Prop} {ER : Nat → Nat → Nat → Prop} {f : Nat → Nat} {ln sl : Nat} {σ : z_St} (h : z_cs L xs U (z_ei 7 5 0) ER f ln sl σ) (hp : ¬ ER 1 0 3) {d : Nat} {Q : z_St → Option z_V → Prop} (k : ∀ σ', z_cs L xs U (z_ei 7 5 5) ER f ln sl σ' → Q σ' none) : wp (zD (d + 2) 246 [.inr (.inr (some (1, 3))), .inl 112, .inl 101, .inl 101, .inl 114, .inl 0, .inl 0] σ) Q := by
  refine wp_eq (c246 ..) (wp_eq (e246_0 ..) (wp_cv (wp_eq (c239 ..) (wp_eq (e239_0 ..) (wp_sw (wp_ret ⟨rfl, ?_⟩))))))
  have h := cs_I (FI := z_ei 7 5 0) h (a := 1) (b := 1) (n := 3) (x := 0) (.inr (by unfold z_ei; omega)) (fun _ _ _ q _ => q)
  have hs : gI (wI σ 1 1 3 0) 1 1 3 = Int32.ofNat 0 := by rw [gI_wI, if_pos ⟨rfl, rfl, rfl⟩]; rfl
  generalize wI σ 1 1 3 0 = σ at h hs ⊢
  refine cs_add (FI := z_ei 7 5 1) h hs (by decide) hp (by unfold z_ei; omega) ((by decide : nb 112 = 112).trans rfl) (fun c d m q hn => by unfold z_ei at q ⊢; omega) fun σ h hs => ?_
  refine cs_add (FI := z_ei 7 5 2) h hs (by decide) hp (by unfold z_ei; omega) ((by decide : nb 101 = 101).trans rfl) (fun c d m q hn => by unfold z_ei at q ⊢; omega) fun σ h hs => ?_
  refine cs_add (FI := z_ei 7 5 3) h hs (by decide) hp (by unfold z_ei; omega) ((by decide : nb 101 = 101).trans rfl) (fun c d m q hn => by unfold z_ei at q ⊢; omega) fun σ h hs => ?_
  refine cs_add (FI := z_ei 7 5 4) h hs (by decide) hp (by unfold z_ei; omega) ((by decide : nb 114 = 114).trans rfl) (fun c d m q hn => by unfold z_ei at q ⊢; omega) fun σ h hs => ?_
  refine wp_if (fun _ => wp_eq (e246_1 ..) ?_) (fun g => absurd rfl g)
  refine wp_ret (k σ (cs_cl h (a := 1) (b := 1) (n := 3) (hs.trans ?_) (fun c d m q hn => by unfold z_ei at q ⊢; omega)))
  rfl
theorem xl_links {L : Nat} {xs : Nat → Int32} {d : Nat} {Q : z_St → Option z_V → Prop} : ∀ (r k : Nat) (σ : z_St) (f : Nat → Nat) (ln sl : Nat), k + r = 8 → z_cs L xs z_un (z_ei 7 5 5) (z_er 16 k 0 0 0) f ln sl σ → f 4 = k → f 73419537 = k → f 74512913 = k → (∀ σ' f', z_cs L xs z_un (z_ei 7 5 5) (z_er 16 8 0 0 0) f' (ln + 3 * r) (sl + 2609 * r) σ' → (∀ a, ¬ (a = 4 ∨ a = 73419537 ∨ a = 74512913) → f' a = f a) → wp (E xP1 (zD (d + 2)) 3 [some (.inr (.inr (some (0, 0)))), none] [] σ') Q) →
    wp (E xP1 (zD (d + 2)) 1 [some (.inr (.inr (some (0, 0)))), some (.inl (Int32.ofNat k))] [] σ) Q
  | 0, k, σ, f, ln, sl, hk, h, h4, h5, h6, q => by
    have : k = 8 := by omega
    subst this
    exact wp_eq (e1_1 ..) (wp_if (fun _ => q σ f h (fun _ _ => rfl)) (fun g => absurd (by decide) g))
  | r + 1, k, σ, f, ln, sl, hk, h, h4, h5, h6, q => by
    refine wp_eq (e1_1 ..) (wp_if (fun g => ?_) (fun _ => ?_))
    · rw [show (8 : Int32) = Int32.ofNat 8 from rfl, io_le (by omega) (by omega)] at g
      omega
    have e0 : cn σ 4 + z_off 4 = k + 1 := by rw [h.2.2.2.1, h4]; rfl
    have rp : gR σ 0 6 0 = some (1048852, 0) := h.2.2.1 0 6 0 (by unfold z_er; omega)
    refine wp_eq (e1_2 ..) ?_
    rw [e0]
    have a1 := cs_O (V := z_un) (FI := fun c d m => z_ei 7 5 5 c d m ∨ (c = 4 ∧ d = 0 ∧ m = k + 1)) (FR := fun c d m => z_er 16 k 0 0 0 c d m ∨ (c = 4 ∧ m = k + 1 ∧ (d = 4 ∨ d = 6))) h (a := 4) (n := k + 1) (by decide) (fun d => by
      by_cases e : d = 0
      · exact .inl (.inr ⟨rfl, e, rfl⟩)
      · right
        unfold z_mui
        rw [if_neg (by decide), if_neg (by decide), if_neg (by decide), if_pos rfl, if_neg (fun g => e g.1)]) (fun d => by
      by_cases e : d = 4 ∨ d = 6
      · exact .inl (.inr ⟨rfl, rfl, e⟩)
      · right
        unfold z_mur
        rw [if_neg (by decide), if_neg (by decide), if_neg (by decide), if_neg (by decide), if_pos rfl, if_neg (fun g => e (.inl g)), if_neg (fun g => e (.inr g))]) (fun _ _ _ q => .inl q) (fun _ _ _ q => .inl q) (fun b hb => ⟨hb, fun e => by subst e; unfold z_un at hb; omega⟩)
    refine wp_sw (wp_cv (wp_eq (c190 ..) (wp_eq (e190_0 ..) ?_)))
    have f4 : va_up f 4 (f 4 + 1) 4 = k + 1 := by show f 4 + 1 = k + 1; rw [h4]
    have f5 : va_up f 4 (f 4 + 1) 73419537 = k := h5
    have f6 : va_up f 4 (f 4 + 1) 74512913 = k := h6
    have fo : ∀ a, ¬ (a = 4 ∨ a = 73419537 ∨ a = 74512913) → va_up f 4 (f 4 + 1) a = f a := fun a ha => by
      unfold va_up
      rw [if_neg (fun g => ha (.inl g))]
    generalize va_up f 4 (f 4 + 1) = f1 at *
    generalize nO σ 4 (k + 1) = s1 at a1 ⊢
    rw [show cn s1 73419537 + z_off 73419537 = k + 1 from by rw [a1.2.2.2.1, f5]; rfl]
    have a2 := cs_A (V := z_un) (FI := fun c d m => z_ei 7 5 5 c d m ∨ (c = 4 ∧ d = 0 ∧ m = k + 1)) (FR := fun c d m => z_er 16 k 0 0 0 c d m ∨ (c = 4 ∧ m = k + 1 ∧ (d = 4 ∨ d = 6))) a1 (a := 73419537) (n := k + 1) (by decide) (fun m => .inr (mui_0 (by decide) _ _)) (fun m => .inr (mur_0 (by decide) _ _)) (fun _ _ _ q => q) (fun _ _ _ q => q) (fun b hb => ⟨hb, fun e => by subst e; unfold z_un at hb; omega⟩)
    have a3 := cs_R (FR := fun c d m => z_er 16 k 0 0 0 c d m ∨ (c = 4 ∧ m = k + 1 ∧ d = 6)) a2 (a := 4) (b := 4) (n := k + 1) (x := some (73419537, k + 1)) rfl (fun c d m q hn => q.elim .inl (fun g => .inr (by omega)))
    refine wp_sw (wp_sw ?_)
    have g4 : va_up f1 73419537 (f1 73419537 + 1) 4 = k + 1 := f4
    have g5 : va_up f1 73419537 (f1 73419537 + 1) 73419537 = k + 1 := by show f1 73419537 + 1 = k + 1; rw [f5]
    have g6 : va_up f1 73419537 (f1 73419537 + 1) 74512913 = k := f6
    have go : ∀ a, ¬ (a = 4 ∨ a = 73419537 ∨ a = 74512913) → va_up f1 73419537 (f1 73419537 + 1) a = f a := fun a ha => by
      unfold va_up
      rw [if_neg (fun g => ha (.inr (.inl g)))]
      exact fo a ha
    generalize va_up f1 73419537 (f1 73419537 + 1) = f2 at *
    generalize wR (nA s1 73419537 (k + 1)) 4 4 (k + 1) (some (73419537, k + 1)) = s3 at a3 ⊢
    rw [show cn s3 74512913 + z_off 74512913 = k + 1 from by rw [a3.2.2.2.1, g6]; rfl]
    have a4 := cs_A (V := z_un) (FI := fun c d m => z_ei 7 5 5 c d m ∨ (c = 4 ∧ d = 0 ∧ m = k + 1)) (FR := fun c d m => z_er 16 k 0 0 0 c d m ∨ (c = 4 ∧ m = k + 1 ∧ d = 6)) a3 (a := 74512913) (n := k + 1) (by decide) (fun m => .inr (mui_0 (by decide) _ _)) (fun m => .inr (mur_0 (by decide) _ _)) (fun _ _ _ q => q) (fun _ _ _ q => q) (fun b hb => ⟨hb, fun e => by subst e; unfold z_un at hb; omega⟩)
    have a5 := cs_R (FR := z_er 16 k 0 0 0) a4 (a := 4) (b := 6) (n := k + 1) (x := some (74512913, k + 1)) rfl (fun c d m q hn => q.elim id (fun g => absurd ⟨g.1, g.2.2, g.2.1⟩ hn))
    have a6 := cs_I (FI := z_ei 7 5 5) a5 (a := 4) (b := 0) (n := k + 1) (x := Int32.ofNat k + 1) (.inl (by
      unfold z_mui
      rw [if_neg (by decide), if_neg (by decide), if_neg (by decide), if_pos rfl, if_pos ⟨rfl, by omega, by omega⟩, io_add_l])) (fun c d m q hn => q.elim id (fun g => absurd g hn))
    refine wp_sw (wp_sw (wp_sw (wp_ret ⟨rfl, ?_⟩)))
    refine wp_dr rp (wp_gd (by rw [aty_1048852]; decide) (wp_gd (by rw [alen_1048852]; exact zin_io (by omega) (by decide)) ?_))
    dsimp only
    rw [io_nat (by omega), io_add_l]
    have a7 := cs_R (FR := z_er 16 (k + 1) 0 0 0) a6 (a := 1048852) (b := 0) (n := k) (x := some (4, k + 1)) (by
      unfold z_mur
      rw [if_neg (by decide), if_neg (by decide), if_neg (by decide), if_neg (by decide), if_neg (by decide), if_neg (by decide), if_neg (by decide), if_neg (by decide), if_neg (by decide), if_neg (by decide), if_pos rfl, if_pos ⟨rfl, by omega⟩]) (fun c d m q hn => by unfold z_er at q ⊢; omega)
    refine wp_sw (xl_links r (k + 1) _ _ _ _ (by omega) a7 g4 g5 (by show f2 74512913 + 1 = k + 1; rw [g6]) fun σ' f' h' ho => q σ' f' ?_ fun a ha => ?_)
    · rw [show ln + 3 * (r + 1) = ln + 1 + 1 + 1 + 3 * r by omega, show sl + 2609 * (r + 1) = sl + oN 4 + aLen 73419537 + aLen 74512913 + 2609 * r by rw [show oN 4 = 9 from rfl, alen_73419537, alen_74512913]; omega]
      exact h'
    · rw [ho a ha]
      unfold va_up
      rw [if_neg (fun g => ha (.inr (.inr g)))]
      exact go a ha
theorem xl_sess0 {L : Nat} {xs : Nat → Int32} {d : Nat} {Q : z_St → Option z_V → Prop} : ∀ (r k : Nat) (σ : z_St) (f : Nat → Nat) (ln sl : Nat), k + r = 16 → z_cs L xs z_un (z_ei 7 5 5) (z_er 16 8 k 0 0) f ln sl σ → f 5 = k → f 1 = 4 + 3 * k → f 80741649 = 4 + 3 * k → (∀ σ' f', z_cs L xs z_un (z_ei 7 5 5) (z_er 16 8 16 0 0) f' (ln + 7 * r) (sl + 134 * r) σ' → f' 1 = 4 + 3 * 16 → f' 80741649 = 4 + 3 * 16 → (∀ a, ¬ (a = 5 ∨ a = 1 ∨ a = 80741649) → f' a = f a) → wp (E xP1 (zD (d + 2)) 6 [some (.inr (.inr (some (0, 0)))), none] [] σ') Q) →
    wp (E xP1 (zD (d + 2)) 4 [some (.inr (.inr (some (0, 0)))), some (.inl (Int32.ofNat k))] [] σ) Q
  | 0, k, σ, f, ln, sl, hk, h, h5, h1, h8, q => by
    have : k = 16 := by omega
    subst this
    exact wp_eq (e1_4 ..) (wp_if (fun _ => q σ f h h1 h8 (fun _ _ => rfl)) (fun g => absurd (by decide) g))
  | r + 1, k, σ, f, ln, sl, hk, h, h5, h1, h8, q => by
    refine wp_eq (e1_4 ..) (wp_if (fun g => ?_) (fun _ => ?_))
    · rw [show (16 : Int32) = Int32.ofNat 16 from rfl, io_le (by omega) (by omega)] at g
      omega
    have e0 : cn σ 5 + z_off 5 = k := by rw [h.2.2.2.1, h5]; rfl
    have rp : gR σ 0 11 0 = some (4194839, 0) := h.2.2.1 0 11 0 (by unfold z_er; omega)
    refine wp_eq (e1_5 ..) ?_
    rw [e0]
    have mur5 : ∀ d, ¬ d < 3 → z_mur 5 d k = none := fun d hd => by
      unfold z_mur
      rw [if_neg (by decide), if_neg (by decide), if_neg (by decide), if_neg (by decide), if_neg (by decide), if_pos rfl, if_neg hd]
    have mur6 : ∀ d, d < 3 → z_mur 5 d k = some (1, 4 + d + 3 * k) := fun d hd => by
      unfold z_mur
      rw [if_neg (by decide), if_neg (by decide), if_neg (by decide), if_neg (by decide), if_neg (by decide), if_pos rfl, if_pos hd]
    have a1 := cs_O (V := z_un) (FI := z_ei 7 5 5) (FR := fun c d m => z_er 16 8 k 0 0 c d m ∨ (c = 5 ∧ m = k ∧ d < 3)) h (a := 5) (n := k) (by decide) (fun d => .inr (mui_0 (by decide) _ _)) (fun d => by
      by_cases e : d < 3
      · exact .inl (.inr ⟨rfl, rfl, e⟩)
      · exact .inr (mur5 d e)) (fun _ _ _ q => q) (fun _ _ _ q => .inl q) (fun b hb => ⟨hb, fun e => by subst e; unfold z_un at hb; omega⟩)
    refine wp_sw (wp_cv (wp_eq (c235 ..) (wp_eq (e235_0 ..) ?_)))
    have f5 : va_up f 5 (f 5 + 1) 5 = k + 1 := by show f 5 + 1 = k + 1; rw [h5]
    have f1 : va_up f 5 (f 5 + 1) 1 = 4 + 3 * k := h1
    have f8 : va_up f 5 (f 5 + 1) 80741649 = 4 + 3 * k := h8
    have fo : ∀ a, ¬ (a = 5 ∨ a = 1 ∨ a = 80741649) → va_up f 5 (f 5 + 1) a = f a := fun a ha => by
      unfold va_up
      rw [if_neg (fun g => ha (.inl g))]
    generalize va_up f 5 (f 5 + 1) = g0 at *
    generalize nO σ 5 k = s1 at a1 ⊢
    have c0 : cn s1 1 + z_off 1 = 4 + 3 * k := by rw [a1.2.2.2.1, f1]; rfl
    refine cs_T a1 f1 f8 ⟨fun d => .inr ((mui_T (by omega)).1 d), fun m => .inr ((mui_T (by omega)).2 m)⟩ fun t0 p0 u0 hp0 => wp_sw ?_
    rw [c0]
    have u0 := cs_R (FR := fun c d m => z_er 16 8 k 0 0 c d m ∨ (c = 5 ∧ m = k ∧ 1 ≤ d ∧ d < 3)) u0 (a := 5) (b := 0) (n := k) (x := some (1, 4 + 3 * k)) (mur6 0 (by decide)).symm (fun c d m q hn => q.elim .inl (fun g => .inr (by omega)))
    have f5 : p0 5 = k + 1 := by rw [hp0]; exact f5
    have f1 : p0 1 = 5 + 3 * k := by rw [hp0]; show 4 + 3 * k + 1 = _; omega
    have f8 : p0 80741649 = 5 + 3 * k := by rw [hp0]; show 4 + 3 * k + 1 = _; omega
    have fo : ∀ a, ¬ (a = 5 ∨ a = 1 ∨ a = 80741649) → p0 a = f a := fun a ha => by
      rw [hp0]
      unfold va_up
      rw [if_neg (fun g => ha (.inr (.inr g))), if_neg (fun g => ha (.inr (.inl g)))]
      exact fo a ha
    clear hp0
    generalize wR t0 5 0 k (some (1, 4 + 3 * k)) = v0 at u0 ⊢
    have c1 : cn v0 1 + z_off 1 = 5 + 3 * k := by rw [u0.2.2.2.1, f1]; rfl
    refine cs_T u0 f1 f8 ⟨fun d => .inr ((mui_T (by omega)).1 d), fun m => .inr ((mui_T (by omega)).2 m)⟩ fun t1 p1 u1 hp1 => wp_sw ?_
    rw [c1]
    have u1 := cs_R (FR := fun c d m => z_er 16 8 k 0 0 c d m ∨ (c = 5 ∧ m = k ∧ 2 ≤ d ∧ d < 3)) u1 (a := 5) (b := 1) (n := k) (x := some (1, 5 + 3 * k)) (mur6 1 (by decide)).symm (fun c d m q hn => q.elim .inl (fun g => .inr (by omega)))
    have f5 : p1 5 = k + 1 := by rw [hp1]; exact f5
    have f1 : p1 1 = 6 + 3 * k := by rw [hp1]; show 5 + 3 * k + 1 = _; omega
    have f8 : p1 80741649 = 6 + 3 * k := by rw [hp1]; show 5 + 3 * k + 1 = _; omega
    have fo : ∀ a, ¬ (a = 5 ∨ a = 1 ∨ a = 80741649) → p1 a = f a := fun a ha => by
      rw [hp1]
      unfold va_up
      rw [if_neg (fun g => ha (.inr (.inr g))), if_neg (fun g => ha (.inr (.inl g)))]
      exact fo a ha
    clear hp1
    generalize wR t1 5 1 k (some (1, 5 + 3 * k)) = v1 at u1 ⊢
    have c2 : cn v1 1 + z_off 1 = 6 + 3 * k := by rw [u1.2.2.2.1, f1]; rfl
    refine cs_T u1 f1 f8 ⟨fun d => .inr ((mui_T (by omega)).1 d), fun m => .inr ((mui_T (by omega)).2 m)⟩ fun t2 p2 u2 hp2 => wp_sw ?_
    rw [c2]
    have u2 := cs_R (FR := fun c d m => z_er 16 8 k 0 0 c d m ∨ (c = 5 ∧ m = k ∧ 3 ≤ d ∧ d < 3)) u2 (a := 5) (b := 2) (n := k) (x := some (1, 6 + 3 * k)) (mur6 2 (by decide)).symm (fun c d m q hn => q.elim .inl (fun g => .inr (by omega)))
    have f5 : p2 5 = k + 1 := by rw [hp2]; exact f5
    have f1 : p2 1 = 7 + 3 * k := by rw [hp2]; show 6 + 3 * k + 1 = _; omega
    have f8 : p2 80741649 = 7 + 3 * k := by rw [hp2]; show 6 + 3 * k + 1 = _; omega
    have fo : ∀ a, ¬ (a = 5 ∨ a = 1 ∨ a = 80741649) → p2 a = f a := fun a ha => by
      rw [hp2]
      unfold va_up
      rw [if_neg (fun g => ha (.inr (.inr g))), if_neg (fun g => ha (.inr (.inl g)))]
      exact fo a ha
    clear hp2
    generalize wR t2 5 2 k (some (1, 6 + 3 * k)) = v2 at u2 ⊢
    refine wp_ret ⟨rfl, ?_⟩
    refine wp_dr rp (wp_gd (by rw [aty_4194839]; decide) (wp_gd (by rw [alen_4194839]; exact zin_io (by omega) (by decide)) ?_))
    dsimp only
    rw [io_nat (by omega), io_add_l]
    have a7 := cs_R (FR := z_er 16 8 (k + 1) 0 0) u2 (a := 4194839) (b := 0) (n := k) (x := some (5, k)) (by
      unfold z_mur
      rw [if_neg (by decide), if_neg (by decide), if_neg (by decide), if_neg (by decide), if_neg (by decide), if_neg (by decide), if_neg (by decide), if_neg (by decide), if_neg (by decide), if_neg (by decide), if_neg (by decide), if_pos rfl, if_pos ⟨rfl, by omega⟩]) (fun c d m q hn => by unfold z_er at q ⊢; omega)
    refine wp_sw (xl_sess0 r (k + 1) _ _ _ _ (by omega) a7 f5 (by omega) (by omega) fun σ' f' h' e1 e8 ho => q σ' f' ?_ e1 e8 fun a ha => ?_)
    · rw [show ln + 7 * (r + 1) = ln + 1 + 2 + 2 + 2 + 7 * r by omega, show sl + 134 * (r + 1) = sl + oN 5 + 42 + 42 + 42 + 134 * r by rw [show oN 5 = 8 from rfl]; omega]
      exact h'
    · rw [ho a ha]
      exact fo a ha
theorem xl_asks0 {L : Nat} {xs : Nat → Int32} {d : Nat} {Q : z_St → Option z_V → Prop} : ∀ (r k : Nat) (σ : z_St) (f : Nat → Nat) (ln sl : Nat), k + r = 64 → z_cs L xs z_un (z_ei 7 5 5) (z_er 16 8 16 k 0) f ln sl σ → f 6 = k → f 1 = 52 + 3 * k → f 80741649 = 52 + 3 * k → (∀ σ' f', z_cs L xs z_un (z_ei 7 5 5) (z_er 16 8 16 64 0) f' (ln + 7 * r) (sl + 134 * r) σ' → f' 1 = 52 + 3 * 64 → f' 80741649 = 52 + 3 * 64 → (∀ a, ¬ (a = 6 ∨ a = 1 ∨ a = 80741649) → f' a = f a) → wp (E xP1 (zD (d + 2)) 9 [some (.inr (.inr (some (0, 0)))), none] [] σ') Q) →
    wp (E xP1 (zD (d + 2)) 7 [some (.inr (.inr (some (0, 0)))), some (.inl (Int32.ofNat k))] [] σ) Q
  | 0, k, σ, f, ln, sl, hk, h, h5, h1, h8, q => by
    have : k = 64 := by omega
    subst this
    exact wp_eq (e1_7 ..) (wp_if (fun _ => q σ f h h1 h8 (fun _ _ => rfl)) (fun g => absurd (by decide) g))
  | r + 1, k, σ, f, ln, sl, hk, h, h5, h1, h8, q => by
    refine wp_eq (e1_7 ..) (wp_if (fun g => ?_) (fun _ => ?_))
    · rw [show (64 : Int32) = Int32.ofNat 64 from rfl, io_le (by omega) (by omega)] at g
      omega
    have e0 : cn σ 6 + z_off 6 = k := by rw [h.2.2.2.1, h5]; rfl
    have rp : gR σ 0 13 0 = some (5244952, 0) := h.2.2.1 0 13 0 (by unfold z_er; omega)
    refine wp_eq (e1_8 ..) ?_
    rw [e0]
    have mur5 : ∀ d, ¬ d < 3 → z_mur 6 d k = none := fun d hd => by
      unfold z_mur
      rw [if_neg (by decide), if_neg (by decide), if_neg (by decide), if_neg (by decide), if_neg (by decide), if_neg (by decide), if_pos rfl, if_neg hd]
    have mur6 : ∀ d, d < 3 → z_mur 6 d k = some (1, 52 + d + 3 * k) := fun d hd => by
      unfold z_mur
      rw [if_neg (by decide), if_neg (by decide), if_neg (by decide), if_neg (by decide), if_neg (by decide), if_neg (by decide), if_pos rfl, if_pos hd]
    have a1 := cs_O (V := z_un) (FI := z_ei 7 5 5) (FR := fun c d m => z_er 16 8 16 k 0 c d m ∨ (c = 6 ∧ m = k ∧ d < 3)) h (a := 6) (n := k) (by decide) (fun d => .inr (mui_0 (by decide) _ _)) (fun d => by
      by_cases e : d < 3
      · exact .inl (.inr ⟨rfl, rfl, e⟩)
      · exact .inr (mur5 d e)) (fun _ _ _ q => q) (fun _ _ _ q => .inl q) (fun b hb => ⟨hb, fun e => by subst e; unfold z_un at hb; omega⟩)
    refine wp_sw (wp_cv (wp_eq (c234 ..) (wp_eq (e234_0 ..) ?_)))
    have f5 : va_up f 6 (f 6 + 1) 6 = k + 1 := by show f 6 + 1 = k + 1; rw [h5]
    have f1 : va_up f 6 (f 6 + 1) 1 = 52 + 3 * k := h1
    have f8 : va_up f 6 (f 6 + 1) 80741649 = 52 + 3 * k := h8
    have fo : ∀ a, ¬ (a = 6 ∨ a = 1 ∨ a = 80741649) → va_up f 6 (f 6 + 1) a = f a := fun a ha => by
      unfold va_up
      rw [if_neg (fun g => ha (.inl g))]
    generalize va_up f 6 (f 6 + 1) = g0 at *
    generalize nO σ 6 k = s1 at a1 ⊢
    have c0 : cn s1 1 + z_off 1 = 52 + 3 * k := by rw [a1.2.2.2.1, f1]; rfl
    refine cs_T a1 f1 f8 ⟨fun d => .inr ((mui_T (by omega)).1 d), fun m => .inr ((mui_T (by omega)).2 m)⟩ fun t0 p0 u0 hp0 => wp_sw ?_
    rw [c0]
    have u0 := cs_R (FR := fun c d m => z_er 16 8 16 k 0 c d m ∨ (c = 6 ∧ m = k ∧ 1 ≤ d ∧ d < 3)) u0 (a := 6) (b := 0) (n := k) (x := some (1, 52 + 3 * k)) (mur6 0 (by decide)).symm (fun c d m q hn => q.elim .inl (fun g => .inr (by omega)))
    have f5 : p0 6 = k + 1 := by rw [hp0]; exact f5
    have f1 : p0 1 = 53 + 3 * k := by rw [hp0]; show 52 + 3 * k + 1 = _; omega
    have f8 : p0 80741649 = 53 + 3 * k := by rw [hp0]; show 52 + 3 * k + 1 = _; omega
    have fo : ∀ a, ¬ (a = 6 ∨ a = 1 ∨ a = 80741649) → p0 a = f a := fun a ha => by
      rw [hp0]
      unfold va_up
      rw [if_neg (fun g => ha (.inr (.inr g))), if_neg (fun g => ha (.inr (.inl g)))]
      exact fo a ha
    clear hp0
    generalize wR t0 6 0 k (some (1, 52 + 3 * k)) = v0 at u0 ⊢
    have c1 : cn v0 1 + z_off 1 = 53 + 3 * k := by rw [u0.2.2.2.1, f1]; rfl
    refine cs_T u0 f1 f8 ⟨fun d => .inr ((mui_T (by omega)).1 d), fun m => .inr ((mui_T (by omega)).2 m)⟩ fun t1 p1 u1 hp1 => wp_sw ?_
    rw [c1]
    have u1 := cs_R (FR := fun c d m => z_er 16 8 16 k 0 c d m ∨ (c = 6 ∧ m = k ∧ 2 ≤ d ∧ d < 3)) u1 (a := 6) (b := 1) (n := k) (x := some (1, 53 + 3 * k)) (mur6 1 (by decide)).symm (fun c d m q hn => q.elim .inl (fun g => .inr (by omega)))
    have f5 : p1 6 = k + 1 := by rw [hp1]; exact f5
    have f1 : p1 1 = 54 + 3 * k := by rw [hp1]; show 53 + 3 * k + 1 = _; omega
    have f8 : p1 80741649 = 54 + 3 * k := by rw [hp1]; show 53 + 3 * k + 1 = _; omega
    have fo : ∀ a, ¬ (a = 6 ∨ a = 1 ∨ a = 80741649) → p1 a = f a := fun a ha => by
      rw [hp1]
      unfold va_up
      rw [if_neg (fun g => ha (.inr (.inr g))), if_neg (fun g => ha (.inr (.inl g)))]
      exact fo a ha
    clear hp1
    generalize wR t1 6 1 k (some (1, 53 + 3 * k)) = v1 at u1 ⊢
    have c2 : cn v1 1 + z_off 1 = 54 + 3 * k := by rw [u1.2.2.2.1, f1]; rfl
    refine cs_T u1 f1 f8 ⟨fun d => .inr ((mui_T (by omega)).1 d), fun m => .inr ((mui_T (by omega)).2 m)⟩ fun t2 p2 u2 hp2 => wp_sw ?_
    rw [c2]
    have u2 := cs_R (FR := fun c d m => z_er 16 8 16 k 0 c d m ∨ (c = 6 ∧ m = k ∧ 3 ≤ d ∧ d < 3)) u2 (a := 6) (b := 2) (n := k) (x := some (1, 54 + 3 * k)) (mur6 2 (by decide)).symm (fun c d m q hn => q.elim .inl (fun g => .inr (by omega)))
    have f5 : p2 6 = k + 1 := by rw [hp2]; exact f5
    have f1 : p2 1 = 55 + 3 * k := by rw [hp2]; show 54 + 3 * k + 1 = _; omega
    have f8 : p2 80741649 = 55 + 3 * k := by rw [hp2]; show 54 + 3 * k + 1 = _; omega
    have fo : ∀ a, ¬ (a = 6 ∨ a = 1 ∨ a = 80741649) → p2 a = f a := fun a ha => by
      rw [hp2]
      unfold va_up
      rw [if_neg (fun g => ha (.inr (.inr g))), if_neg (fun g => ha (.inr (.inl g)))]
      exact fo a ha
    clear hp2
    generalize wR t2 6 2 k (some (1, 54 + 3 * k)) = v2 at u2 ⊢
    refine wp_ret ⟨rfl, ?_⟩
    refine wp_dr rp (wp_gd (by rw [aty_5244952]; decide) (wp_gd (by rw [alen_5244952]; exact zin_io (by omega) (by decide)) ?_))
    dsimp only
    rw [io_nat (by omega), io_add_l]
    have a7 := cs_R (FR := z_er 16 8 16 (k + 1) 0) u2 (a := 5244952) (b := 0) (n := k) (x := some (6, k)) (by
      unfold z_mur
      rw [if_neg (by decide), if_neg (by decide), if_neg (by decide), if_neg (by decide), if_neg (by decide), if_neg (by decide), if_neg (by decide), if_neg (by decide), if_neg (by decide), if_neg (by decide), if_neg (by decide), if_neg (by decide), if_pos rfl, if_pos ⟨rfl, by omega⟩]) (fun c d m q hn => by unfold z_er at q ⊢; omega)
    refine wp_sw (xl_asks0 r (k + 1) _ _ _ _ (by omega) a7 f5 (by omega) (by omega) fun σ' f' h' e1 e8 ho => q σ' f' ?_ e1 e8 fun a ha => ?_)
    · rw [show ln + 7 * (r + 1) = ln + 1 + 2 + 2 + 2 + 7 * r by omega, show sl + 134 * (r + 1) = sl + oN 6 + 42 + 42 + 42 + 134 * r by rw [show oN 6 = 8 from rfl]; omega]
      exact h'
    · rw [ho a ha]
      exact fo a ha
theorem xl_keeps0 {L : Nat} {xs : Nat → Int32} {d : Nat} {Q : z_St → Option z_V → Prop} : ∀ (r k : Nat) (σ : z_St) (f : Nat → Nat) (ln sl : Nat), k + r = 32 → z_cs L xs z_un (z_ei 7 5 5) (z_er 16 8 16 64 k) f ln sl σ → f 7 = k → f 72361361 = k → f 1 = 244 + k → f 80741649 = 244 + k → (∀ σ' f', z_cs L xs z_un (z_ei 7 5 5) (z_er 16 8 16 64 32) f' (ln + 4 * r) (sl + 347 * r) σ' → f' 1 = 276 → f' 80741649 = 276 → wp (E xP1 (zD (d + 2)) 12 [none, none] [] σ') Q) →
    wp (E xP1 (zD (d + 2)) 10 [some (.inr (.inr (some (0, 0)))), some (.inl (Int32.ofNat k))] [] σ) Q
  | 0, k, σ, f, ln, sl, hk, h, h7, h6, h1, h8, q => by
    have : k = 32 := by omega
    subst this
    exact wp_eq (e1_10 ..) (wp_if (fun _ => q σ f h h1 h8) (fun g => absurd (by decide) g))
  | r + 1, k, σ, f, ln, sl, hk, h, h7, h6, h1, h8, q => by
    refine wp_eq (e1_10 ..) (wp_if (fun g => ?_) (fun _ => ?_))
    · rw [show (32 : Int32) = Int32.ofNat 32 from rfl, io_le (by omega) (by omega)] at g
      omega
    have e0 : cn σ 7 + z_off 7 = k := by rw [h.2.2.2.1, h7]; rfl
    have rp : gR σ 0 15 0 = some (6292505, 0) := h.2.2.1 0 15 0 (by unfold z_er; omega)
    refine wp_eq (e1_11 ..) ?_
    rw [e0]
    have a1 := cs_O (V := z_un) (FI := z_ei 7 5 5) (FR := fun c d m => z_er 16 8 16 64 k c d m ∨ (c = 7 ∧ m = k ∧ (d = 0 ∨ d = 3))) h (a := 7) (n := k) (by decide) (fun d => .inr (mui_0 (by decide) _ _)) (fun d => by
      by_cases e : d = 0 ∨ d = 3
      · exact .inl (.inr ⟨rfl, rfl, e⟩)
      · right
        unfold z_mur
        rw [if_neg (by decide), if_neg (by decide), if_neg (by decide), if_neg (by decide), if_neg (by decide), if_neg (by decide), if_neg (by decide), if_pos rfl, if_neg (fun g => e (.inl g)), if_neg (fun g => e (.inr g))]) (fun _ _ _ q => q) (fun _ _ _ q => .inl q) (fun b hb => ⟨hb, fun e => by subst e; unfold z_un at hb; omega⟩)
    refine wp_sw (wp_cv (wp_eq (c189 ..) (wp_eq (e189_0 ..) ?_)))
    have f7 : va_up f 7 (f 7 + 1) 7 = k + 1 := by show f 7 + 1 = k + 1; rw [h7]
    have f6 : va_up f 7 (f 7 + 1) 72361361 = k := h6
    have f1 : va_up f 7 (f 7 + 1) 1 = 244 + k := h1
    have f8 : va_up f 7 (f 7 + 1) 80741649 = 244 + k := h8
    generalize va_up f 7 (f 7 + 1) = g0 at *
    generalize nO σ 7 k = s1 at a1 ⊢
    have c0 : cn s1 1 + z_off 1 = 244 + k := by rw [a1.2.2.2.1, f1]; rfl
    refine cs_T a1 f1 f8 ⟨fun d => .inr ((mui_T (by omega)).1 d), fun m => .inr ((mui_T (by omega)).2 m)⟩ fun t0 p0 u0 hp0 => wp_sw ?_
    rw [c0]
    have u0 := cs_R (FR := fun c d m => z_er 16 8 16 64 k c d m ∨ (c = 7 ∧ m = k ∧ d = 3)) u0 (a := 7) (b := 0) (n := k) (x := some (1, 244 + k)) rfl (fun c d m q hn => q.elim .inl (fun g => .inr (by omega)))
    have f7 : p0 7 = k + 1 := by rw [hp0]; exact f7
    have f6 : p0 72361361 = k := by rw [hp0]; exact f6
    have f1 : p0 1 = 245 + k := by rw [hp0]; show 244 + k + 1 = _; omega
    have f8 : p0 80741649 = 245 + k := by rw [hp0]; show 244 + k + 1 = _; omega
    clear hp0
    generalize wR t0 7 0 k (some (1, 244 + k)) = v0 at u0 ⊢
    rw [show cn v0 72361361 + z_off 72361361 = k from by rw [u0.2.2.2.1, f6]; rfl]
    have a2 := cs_A (V := z_un) (FI := z_ei 7 5 5) (FR := fun c d m => z_er 16 8 16 64 k c d m ∨ (c = 7 ∧ m = k ∧ d = 3)) u0 (a := 72361361) (n := k) (by decide) (fun m => .inr (mui_0 (by decide) _ _)) (fun m => .inr (mur_0 (by decide) _ _)) (fun _ _ _ q => q) (fun _ _ _ q => q) (fun b hb => ⟨hb, fun e => by subst e; unfold z_un at hb; omega⟩)
    have a3 := cs_R (FR := z_er 16 8 16 64 k) a2 (a := 7) (b := 3) (n := k) (x := some (72361361, k)) rfl (fun c d m q hn => q.elim id (fun g => absurd ⟨g.1, g.2.2, g.2.1⟩ hn))
    refine wp_sw (wp_sw (wp_ret ⟨rfl, ?_⟩))
    refine wp_dr rp (wp_gd (by rw [aty_6292505]; decide) (wp_gd (by rw [alen_6292505]; exact zin_io (by omega) (by decide)) ?_))
    dsimp only
    rw [io_nat (by omega), io_add_l]
    have a7 := cs_R (FR := z_er 16 8 16 64 (k + 1)) a3 (a := 6292505) (b := 0) (n := k) (x := some (7, k)) (by
      unfold z_mur
      rw [if_neg (by decide), if_neg (by decide), if_neg (by decide), if_neg (by decide), if_neg (by decide), if_neg (by decide), if_neg (by decide), if_neg (by decide), if_neg (by decide), if_neg (by decide), if_neg (by decide), if_neg (by decide), if_neg (by decide), if_pos rfl, if_pos ⟨rfl, by omega⟩]) (fun c d m q hn => by unfold z_er at q ⊢; omega)
    refine wp_sw (xl_keeps0 r (k + 1) _ _ _ _ (by omega) a7 (show p0 7 = k + 1 from f7) (by show p0 72361361 + 1 = k + 1; rw [f6]) (show p0 1 = 244 + (k + 1) by omega) (show p0 80741649 = 244 + (k + 1) by omega) fun σ' f' h' e1 e8 => q σ' f' ?_ e1 e8)
    rw [show ln + 4 * (r + 1) = ln + 1 + 2 + 1 + 4 * r by omega, show sl + 347 * (r + 1) = sl + oN 7 + 42 + aLen 72361361 + 347 * r by rw [show oN 7 = 5 from rfl, alen_72361361]; omega]
    exact h'
theorem er_1048852 (s m : Nat) : z_er s 0 0 0 0 1048852 0 m ∨ z_mur 1048852 0 m = none := by
  by_cases e : m < 8
  · left; unfold z_er; omega
  · right; unfold z_mur; rw [if_neg (by decide), if_neg (by decide), if_neg (by decide), if_neg (by decide), if_neg (by decide), if_neg (by decide), if_neg (by decide), if_neg (by decide), if_neg (by decide), if_neg (by decide), if_pos rfl, if_neg (fun g => e g.2)]
theorem er_2097301 (s m : Nat) : z_er s 0 0 0 0 2097301 0 m ∨ z_mur 2097301 0 m = none := by
  exact .inr (mur_0 (by decide) _ _)
theorem er_3146262 (s m : Nat) : z_er s 0 0 0 0 3146262 0 m ∨ z_mur 3146262 0 m = none := by
  exact .inr (mur_0 (by decide) _ _)
theorem er_4194839 (s m : Nat) : z_er s 0 0 0 0 4194839 0 m ∨ z_mur 4194839 0 m = none := by
  by_cases e : m < 16
  · left; unfold z_er; omega
  · right; unfold z_mur; rw [if_neg (by decide), if_neg (by decide), if_neg (by decide), if_neg (by decide), if_neg (by decide), if_neg (by decide), if_neg (by decide), if_neg (by decide), if_neg (by decide), if_neg (by decide), if_neg (by decide), if_pos rfl, if_neg (fun g => e g.2)]
theorem er_5244952 (s m : Nat) : z_er s 0 0 0 0 5244952 0 m ∨ z_mur 5244952 0 m = none := by
  by_cases e : m < 64
  · left; unfold z_er; omega
  · right; unfold z_mur; rw [if_neg (by decide), if_neg (by decide), if_neg (by decide), if_neg (by decide), if_neg (by decide), if_neg (by decide), if_neg (by decide), if_neg (by decide), if_neg (by decide), if_neg (by decide), if_neg (by decide), if_neg (by decide), if_pos rfl, if_neg (fun g => e g.2)]
theorem er_6292505 (s m : Nat) : z_er s 0 0 0 0 6292505 0 m ∨ z_mur 6292505 0 m = none := by
  by_cases e : m < 32
  · left; unfold z_er; omega
  · right; unfold z_mur; rw [if_neg (by decide), if_neg (by decide), if_neg (by decide), if_neg (by decide), if_neg (by decide), if_neg (by decide), if_neg (by decide), if_neg (by decide), if_neg (by decide), if_neg (by decide), if_neg (by decide), if_neg (by decide), if_neg (by decide), if_pos rfl, if_neg (fun g => e g.2)]
/-- the component's constructor -/
theorem xc_init {L : Nat} {xs : Nat → Int32} {f : Nat → Nat} {ln sl : Nat} {σ : z_St} (h : z_cs L xs z_un (z_ei 0 0 0) (z_er 0 0 0 0 0) f ln sl σ) (hf : ∀ a, ¬ a = 0 → ¬ z_un a → f a = 0) {d : Nat} {Q : z_St → Option z_V → Prop} (k : ∀ σ' f' ln' sl', z_cs L xs z_un (z_ei 7 5 5) (z_er 16 8 16 64 32) f' ln' sl' σ' → f' 1 = 276 → f' 80741649 = 276 → ln' ≤ ln + 1000 → sl' ≤ sl + 100000 → Q σ' none) : wp (zD (d + 3) 1 [.inr (.inr (some (0, 0)))] σ) Q := by
  have z : ∀ a, ¬ a = 0 → ¬ z_un a → f a = 0 := hf
  refine wp_eq (c1 ..) (wp_eq (e1_0 ..) ?_)
  have q0 : ∀ a, ¬ a = 0 → ¬ z_un a → f a = 0 := hf
  have n1 : f 1 = 0 := hf 1 (by decide) (by unfold z_un; omega)
  have n8 : f 80741649 = 0 := hf 80741649 (by decide) (by unfold z_un; omega)
  have nr : ∀ a, ¬ (a = 0 ∨ a = 1 ∨ a = 80741649) → ¬ z_un a → f a = 0 := fun a ha hu => hf a (fun g => ha (.inl g)) hu
  have e1 : cn σ 1 + z_off 1 = 0 := by rw [h.2.2.2.1, n1]; rfl
  refine cs_T (d := d + 1) h n1 n8 (ei_T _) fun σ2 f2 h2 hf2 => wp_sw ?_
  rw [e1]
  have h2 := cs_R (FR := z_er 1 0 0 0 0) h2 (a := 0) (b := 0) (n := 0) (x := some (1, 0)) rfl (fun c d m q hn => by unfold z_er at q ⊢; omega)
  clear h
  have n1 : f2 1 = 1 := by rw [hf2]; rfl
  have n8 : f2 80741649 = 1 := by rw [hf2]; rfl
  have nr : ∀ a, ¬ (a = 0 ∨ a = 1 ∨ a = 80741649) → ¬ z_un a → f2 a = 0 := fun a ha hu => by
    rw [hf2]
    unfold va_up
    rw [if_neg (fun g => ha (.inr (.inr g))), if_neg (fun g => ha (.inr (.inl g)))]
    exact nr a ha hu
  clear hf2 e1
  have h := h2
  clear h2
  generalize wR σ2 0 0 0 (some (1, 0)) = σ at h ⊢
  generalize f2 = f at *
  have e1 : cn σ 1 + z_off 1 = 1 := by rw [h.2.2.2.1, n1]; rfl
  refine cs_T (d := d + 1) h n1 n8 (ei_T _) fun σ2 f2 h2 hf2 => wp_sw ?_
  rw [e1]
  have h2 := cs_R (FR := z_er 2 0 0 0 0) h2 (a := 0) (b := 1) (n := 0) (x := some (1, 1)) rfl (fun c d m q hn => by unfold z_er at q ⊢; omega)
  clear h
  have n1 : f2 1 = 2 := by rw [hf2]; rfl
  have n8 : f2 80741649 = 2 := by rw [hf2]; rfl
  have nr : ∀ a, ¬ (a = 0 ∨ a = 1 ∨ a = 80741649) → ¬ z_un a → f2 a = 0 := fun a ha hu => by
    rw [hf2]
    unfold va_up
    rw [if_neg (fun g => ha (.inr (.inr g))), if_neg (fun g => ha (.inr (.inl g)))]
    exact nr a ha hu
  clear hf2 e1
  have h := h2
  clear h2
  generalize wR σ2 0 1 0 (some (1, 1)) = σ at h ⊢
  generalize f2 = f at *
  have e1 : cn σ 1 + z_off 1 = 2 := by rw [h.2.2.2.1, n1]; rfl
  refine cs_T (d := d + 1) h n1 n8 (ei_T _) fun σ2 f2 h2 hf2 => wp_sw ?_
  rw [e1]
  have h2 := cs_R (FR := z_er 3 0 0 0 0) h2 (a := 0) (b := 2) (n := 0) (x := some (1, 2)) rfl (fun c d m q hn => by unfold z_er at q ⊢; omega)
  clear h
  have n1 : f2 1 = 3 := by rw [hf2]; rfl
  have n8 : f2 80741649 = 3 := by rw [hf2]; rfl
  have nr : ∀ a, ¬ (a = 0 ∨ a = 1 ∨ a = 80741649) → ¬ z_un a → f2 a = 0 := fun a ha hu => by
    rw [hf2]
    unfold va_up
    rw [if_neg (fun g => ha (.inr (.inr g))), if_neg (fun g => ha (.inr (.inl g)))]
    exact nr a ha hu
  clear hf2 e1
  have h := h2
  clear h2
  generalize wR σ2 0 2 0 (some (1, 2)) = σ at h ⊢
  generalize f2 = f at *
  have e1 : cn σ 1 + z_off 1 = 3 := by rw [h.2.2.2.1, n1]; rfl
  refine cs_T (d := d + 1) h n1 n8 (ei_T _) fun σ2 f2 h2 hf2 => wp_sw ?_
  rw [e1]
  have h2 := cs_R (FR := z_er 4 0 0 0 0) h2 (a := 0) (b := 3) (n := 0) (x := some (1, 3)) rfl (fun c d m q hn => by unfold z_er at q ⊢; omega)
  clear h
  have n1 : f2 1 = 4 := by rw [hf2]; rfl
  have n8 : f2 80741649 = 4 := by rw [hf2]; rfl
  have nr : ∀ a, ¬ (a = 0 ∨ a = 1 ∨ a = 80741649) → ¬ z_un a → f2 a = 0 := fun a ha hu => by
    rw [hf2]
    unfold va_up
    rw [if_neg (fun g => ha (.inr (.inr g))), if_neg (fun g => ha (.inr (.inl g)))]
    exact nr a ha hu
  clear hf2 e1
  have h := h2
  clear h2
  generalize wR σ2 0 3 0 (some (1, 3)) = σ at h ⊢
  generalize f2 = f at *
  have e2 : cn σ 2 + z_off 2 = 0 := by rw [h.2.2.2.1, nr 2 (by omega) (by unfold z_un; omega)]; rfl
  refine cs_P (d := d + 1) h (nr 2 (by omega) (by unfold z_un; omega)) (nr 79714193 (by omega) (by unfold z_un; omega)) fun σ2 f2 h2 hf2 => wp_sw ?_
  rw [e2]
  have h2 := cs_R (FR := z_er 5 0 0 0 0) h2 (a := 0) (b := 4) (n := 0) (x := some (2, 0)) rfl (fun c d m q hn => by unfold z_er at q ⊢; omega)
  clear h
  have n1 : f2 1 = 4 := by rw [hf2]; exact n1
  have n8 : f2 80741649 = 4 := by rw [hf2]; exact n8
  have nr : ∀ a, ¬ (a = 0 ∨ a = 1 ∨ a = 80741649 ∨ a = 2 ∨ a = 79714193) → ¬ z_un a → f2 a = 0 := fun a ha hu => by
    rw [hf2]
    unfold va_up
    rw [if_neg (fun g => ha (by omega)), if_neg (fun g => ha (by omega))]
    exact nr a (fun g => ha (by omega)) hu
  clear hf2 e2
  have h := h2
  clear h2
  generalize wR σ2 0 4 0 (some (2, 0)) = σ at h ⊢
  generalize f2 = f at *
  have e3 : cn σ 3 + z_off 3 = 0 := by rw [h.2.2.2.1, nr 3 (by omega) (by unfold z_un; omega)]; rfl
  refine cs_M (d := d) h (nr 3 (by omega) (by unfold z_un; omega)) (nr 75497658 (by omega) (by unfold z_un; omega)) (nr 76548624 (by omega) (by unfold z_un; omega)) (nr 77597200 (by omega) (by unfold z_un; omega)) (nr 78645776 (by omega) (by unfold z_un; omega)) (fun m g => by unfold z_er at g; omega) fun σ2 f2 h2 hf2 => wp_sw ?_
  rw [e3]
  have h2 := cs_R (FR := z_er 6 0 0 0 0) h2 (a := 0) (b := 5) (n := 0) (x := some (3, 0)) rfl (fun c d m q hn => by unfold z_er at q ⊢; omega)
  clear h
  have n1 : f2 1 = 4 := by rw [hf2 1 (by omega)]; exact n1
  have n8 : f2 80741649 = 4 := by rw [hf2 80741649 (by omega)]; exact n8
  have nr : ∀ a, ¬ (a = 0 ∨ a = 1 ∨ a = 80741649 ∨ a = 2 ∨ a = 79714193 ∨ a = 3 ∨ a = 75497658 ∨ a = 76548624 ∨ a = 77597200 ∨ a = 78645776) → ¬ z_un a → f2 a = 0 := fun a ha hu => by
    rw [hf2 a (fun g => ha (by omega))]
    exact nr a (fun g => ha (by omega)) hu
  clear hf2 e3
  have h := h2
  clear h2
  generalize wR σ2 0 5 0 (some (3, 0)) = σ at h ⊢
  generalize f2 = f at *
  rw [show cn σ 1048852 + z_off 1048852 = 0 from by rw [h.2.2.2.1, nr 1048852 (by omega) (by unfold z_un; omega)]; rfl]
  have h2 := cs_A (V := z_un) (FI := z_ei 0 0 0) (FR := z_er 6 0 0 0 0) h (a := 1048852) (n := 0) (by decide) (fun m => .inr (mui_0 (by decide) _ _)) (fun m => er_1048852 _ m) (fun _ _ _ q => q) (fun _ _ _ q => by unfold z_er at q ⊢; omega) (fun b hb => ⟨hb, fun e => by subst e; unfold z_un at hb; omega⟩)
  have h2 := cs_R (FR := z_er 7 0 0 0 0) h2 (a := 0) (b := 6) (n := 0) (x := some (1048852, 0)) rfl (fun c d m q hn => by unfold z_er at q ⊢; omega)
  refine wp_sw (wp_sw ?_)
  have n1 : va_up f 1048852 (f 1048852 + 1) 1 = 4 := n1
  have n8 : va_up f 1048852 (f 1048852 + 1) 80741649 = 4 := n8
  have nr : ∀ a, ¬ (a = 0 ∨ a = 1 ∨ a = 80741649 ∨ a = 2 ∨ a = 79714193 ∨ a = 3 ∨ a = 75497658 ∨ a = 76548624 ∨ a = 77597200 ∨ a = 78645776 ∨ a = 1048852) → ¬ z_un a → va_up f 1048852 (f 1048852 + 1) a = 0 := fun a ha hu => by
    unfold va_up
    rw [if_neg (fun g => ha (by omega))]
    exact nr a (fun g => ha (by omega)) hu
  clear h
  have h := h2
  clear h2
  generalize wR (nA σ 1048852 0) 0 6 0 (some (1048852, 0)) = σ at h ⊢
  generalize va_up f 1048852 (f 1048852 + 1) = f at *
  rw [show cn σ 2097301 + z_off 2097301 = 0 from by rw [h.2.2.2.1, nr 2097301 (by omega) (by unfold z_un; omega)]; rfl]
  have h2 := cs_A (V := z_un) (FI := z_ei 0 0 0) (FR := z_er 7 0 0 0 0) h (a := 2097301) (n := 0) (by decide) (fun m => .inr (mui_0 (by decide) _ _)) (fun m => er_2097301 _ m) (fun _ _ _ q => q) (fun _ _ _ q => by unfold z_er at q ⊢; omega) (fun b hb => ⟨hb, fun e => by subst e; unfold z_un at hb; omega⟩)
  have h2 := cs_R (FR := z_er 9 0 0 0 0) h2 (a := 0) (b := 7) (n := 0) (x := some (2097301, 0)) rfl (fun c d m q hn => by unfold z_er at q ⊢; omega)
  refine wp_sw (wp_sw ?_)
  have n1 : va_up f 2097301 (f 2097301 + 1) 1 = 4 := n1
  have n8 : va_up f 2097301 (f 2097301 + 1) 80741649 = 4 := n8
  have nr : ∀ a, ¬ (a = 0 ∨ a = 1 ∨ a = 80741649 ∨ a = 2 ∨ a = 79714193 ∨ a = 3 ∨ a = 75497658 ∨ a = 76548624 ∨ a = 77597200 ∨ a = 78645776 ∨ a = 1048852 ∨ a = 2097301) → ¬ z_un a → va_up f 2097301 (f 2097301 + 1) a = 0 := fun a ha hu => by
    unfold va_up
    rw [if_neg (fun g => ha (by omega))]
    exact nr a (fun g => ha (by omega)) hu
  clear h
  have h := h2
  clear h2
  generalize wR (nA σ 2097301 0) 0 7 0 (some (2097301, 0)) = σ at h ⊢
  generalize va_up f 2097301 (f 2097301 + 1) = f at *
  rw [show cn σ 3146262 + z_off 3146262 = 0 from by rw [h.2.2.2.1, nr 3146262 (by omega) (by unfold z_un; omega)]; rfl]
  have h2 := cs_A (V := z_un) (FI := z_ei 0 0 0) (FR := z_er 9 0 0 0 0) h (a := 3146262) (n := 0) (by decide) (fun m => .inr (mui_0 (by decide) _ _)) (fun m => er_3146262 _ m) (fun _ _ _ q => q) (fun _ _ _ q => by unfold z_er at q ⊢; omega) (fun b hb => ⟨hb, fun e => by subst e; unfold z_un at hb; omega⟩)
  have h2 := cs_R (FR := z_er 11 0 0 0 0) h2 (a := 0) (b := 9) (n := 0) (x := some (3146262, 0)) rfl (fun c d m q hn => by unfold z_er at q ⊢; omega)
  refine wp_sw (wp_sw ?_)
  have n1 : va_up f 3146262 (f 3146262 + 1) 1 = 4 := n1
  have n8 : va_up f 3146262 (f 3146262 + 1) 80741649 = 4 := n8
  have nr : ∀ a, ¬ (a = 0 ∨ a = 1 ∨ a = 80741649 ∨ a = 2 ∨ a = 79714193 ∨ a = 3 ∨ a = 75497658 ∨ a = 76548624 ∨ a = 77597200 ∨ a = 78645776 ∨ a = 1048852 ∨ a = 2097301 ∨ a = 3146262) → ¬ z_un a → va_up f 3146262 (f 3146262 + 1) a = 0 := fun a ha hu => by
    unfold va_up
    rw [if_neg (fun g => ha (by omega))]
    exact nr a (fun g => ha (by omega)) hu
  clear h
  have h := h2
  clear h2
  generalize wR (nA σ 3146262 0) 0 9 0 (some (3146262, 0)) = σ at h ⊢
  generalize va_up f 3146262 (f 3146262 + 1) = f at *
  rw [show cn σ 4194839 + z_off 4194839 = 0 from by rw [h.2.2.2.1, nr 4194839 (by omega) (by unfold z_un; omega)]; rfl]
  have h2 := cs_A (V := z_un) (FI := z_ei 0 0 0) (FR := z_er 11 0 0 0 0) h (a := 4194839) (n := 0) (by decide) (fun m => .inr (mui_0 (by decide) _ _)) (fun m => er_4194839 _ m) (fun _ _ _ q => q) (fun _ _ _ q => by unfold z_er at q ⊢; omega) (fun b hb => ⟨hb, fun e => by subst e; unfold z_un at hb; omega⟩)
  have h2 := cs_R (FR := z_er 13 0 0 0 0) h2 (a := 0) (b := 11) (n := 0) (x := some (4194839, 0)) rfl (fun c d m q hn => by unfold z_er at q ⊢; omega)
  refine wp_sw (wp_sw ?_)
  have n1 : va_up f 4194839 (f 4194839 + 1) 1 = 4 := n1
  have n8 : va_up f 4194839 (f 4194839 + 1) 80741649 = 4 := n8
  have nr : ∀ a, ¬ (a = 0 ∨ a = 1 ∨ a = 80741649 ∨ a = 2 ∨ a = 79714193 ∨ a = 3 ∨ a = 75497658 ∨ a = 76548624 ∨ a = 77597200 ∨ a = 78645776 ∨ a = 1048852 ∨ a = 2097301 ∨ a = 3146262 ∨ a = 4194839) → ¬ z_un a → va_up f 4194839 (f 4194839 + 1) a = 0 := fun a ha hu => by
    unfold va_up
    rw [if_neg (fun g => ha (by omega))]
    exact nr a (fun g => ha (by omega)) hu
  clear h
  have h := h2
  clear h2
  generalize wR (nA σ 4194839 0) 0 11 0 (some (4194839, 0)) = σ at h ⊢
  generalize va_up f 4194839 (f 4194839 + 1) = f at *
  rw [show cn σ 5244952 + z_off 5244952 = 0 from by rw [h.2.2.2.1, nr 5244952 (by omega) (by unfold z_un; omega)]; rfl]
  have h2 := cs_A (V := z_un) (FI := z_ei 0 0 0) (FR := z_er 13 0 0 0 0) h (a := 5244952) (n := 0) (by decide) (fun m => .inr (mui_0 (by decide) _ _)) (fun m => er_5244952 _ m) (fun _ _ _ q => q) (fun _ _ _ q => by unfold z_er at q ⊢; omega) (fun b hb => ⟨hb, fun e => by subst e; unfold z_un at hb; omega⟩)
  have h2 := cs_R (FR := z_er 15 0 0 0 0) h2 (a := 0) (b := 13) (n := 0) (x := some (5244952, 0)) rfl (fun c d m q hn => by unfold z_er at q ⊢; omega)
  refine wp_sw (wp_sw ?_)
  have n1 : va_up f 5244952 (f 5244952 + 1) 1 = 4 := n1
  have n8 : va_up f 5244952 (f 5244952 + 1) 80741649 = 4 := n8
  have nr : ∀ a, ¬ (a = 0 ∨ a = 1 ∨ a = 80741649 ∨ a = 2 ∨ a = 79714193 ∨ a = 3 ∨ a = 75497658 ∨ a = 76548624 ∨ a = 77597200 ∨ a = 78645776 ∨ a = 1048852 ∨ a = 2097301 ∨ a = 3146262 ∨ a = 4194839 ∨ a = 5244952) → ¬ z_un a → va_up f 5244952 (f 5244952 + 1) a = 0 := fun a ha hu => by
    unfold va_up
    rw [if_neg (fun g => ha (by omega))]
    exact nr a (fun g => ha (by omega)) hu
  clear h
  have h := h2
  clear h2
  generalize wR (nA σ 5244952 0) 0 13 0 (some (5244952, 0)) = σ at h ⊢
  generalize va_up f 5244952 (f 5244952 + 1) = f at *
  rw [show cn σ 6292505 + z_off 6292505 = 0 from by rw [h.2.2.2.1, nr 6292505 (by omega) (by unfold z_un; omega)]; rfl]
  have h2 := cs_A (V := z_un) (FI := z_ei 0 0 0) (FR := z_er 15 0 0 0 0) h (a := 6292505) (n := 0) (by decide) (fun m => .inr (mui_0 (by decide) _ _)) (fun m => er_6292505 _ m) (fun _ _ _ q => q) (fun _ _ _ q => by unfold z_er at q ⊢; omega) (fun b hb => ⟨hb, fun e => by subst e; unfold z_un at hb; omega⟩)
  have h2 := cs_R (FR := z_er 16 0 0 0 0) h2 (a := 0) (b := 15) (n := 0) (x := some (6292505, 0)) rfl (fun c d m q hn => by unfold z_er at q ⊢; omega)
  refine wp_sw (wp_sw ?_)
  have n1 : va_up f 6292505 (f 6292505 + 1) 1 = 4 := n1
  have n8 : va_up f 6292505 (f 6292505 + 1) 80741649 = 4 := n8
  have nr : ∀ a, ¬ (a = 0 ∨ a = 1 ∨ a = 80741649 ∨ a = 2 ∨ a = 79714193 ∨ a = 3 ∨ a = 75497658 ∨ a = 76548624 ∨ a = 77597200 ∨ a = 78645776 ∨ a = 1048852 ∨ a = 2097301 ∨ a = 3146262 ∨ a = 4194839 ∨ a = 5244952 ∨ a = 6292505) → ¬ z_un a → va_up f 6292505 (f 6292505 + 1) a = 0 := fun a ha hu => by
    unfold va_up
    rw [if_neg (fun g => ha (by omega))]
    exact nr a (fun g => ha (by omega)) hu
  clear h
  have h := h2
  clear h2
  generalize wR (nA σ 6292505 0) 0 15 0 (some (6292505, 0)) = σ at h ⊢
  generalize va_up f 6292505 (f 6292505 + 1) = f at *
  have rp : gR σ 0 1 0 = some (1, 1) := h.2.2.1 0 1 0 (by unfold z_er; omega)
  refine wp_dr rp (wp_gd rfl (wp_cv (cs_set1 (d := d) h (by unfold z_er; omega) fun σ h => ⟨rfl, ?_⟩)))
  have rp : gR σ 0 2 0 = some (1, 2) := h.2.2.1 0 2 0 (by unfold z_er; omega)
  refine wp_dr rp (wp_gd rfl (wp_cv (cs_set2 (d := d) h (by unfold z_er; omega) fun σ h => ⟨rfl, ?_⟩)))
  have rp : gR σ 0 3 0 = some (1, 3) := h.2.2.1 0 3 0 (by unfold z_er; omega)
  refine wp_dr rp (wp_gd rfl (wp_cv (cs_set3 (d := d) h (by unfold z_er; omega) fun σ h => ⟨rfl, ?_⟩)))
  refine xl_links 8 0 σ f _ _ rfl (cs_mono h (fun _ _ _ q => q) (fun _ _ _ q => by unfold z_er at q ⊢; omega)) (nr 4 (by omega) (by unfold z_un; omega)) (nr 73419537 (by omega) (by unfold z_un; omega)) (nr 74512913 (by omega) (by unfold z_un; omega)) fun σ1 f1 h1 o1 => ?_
  refine wp_eq (e1_3 ..) (xl_sess0 16 0 σ1 f1 _ _ rfl h1 (by rw [o1 5 (by omega)]; exact nr 5 (by omega) (by unfold z_un; omega)) (by rw [o1 1 (by omega)]; exact n1) (by rw [o1 80741649 (by omega)]; exact n8) fun σ2 f2 h2 m1 m8 o2 => ?_)
  refine wp_eq (e1_6 ..) (xl_asks0 64 0 σ2 f2 _ _ rfl h2 (by rw [o2 6 (by omega), o1 6 (by omega)]; exact nr 6 (by omega) (by unfold z_un; omega)) m1 m8 fun σ3 f3 h3 l1 l8 o3 => ?_)
  refine wp_eq (e1_9 ..) (xl_keeps0 32 0 σ3 f3 _ _ rfl h3 (by rw [o3 7 (by omega), o2 7 (by omega), o1 7 (by omega)]; exact nr 7 (by omega) (by unfold z_un; omega)) (by rw [o3 72361361 (by omega), o2 72361361 (by omega), o1 72361361 (by omega)]; exact nr 72361361 (by omega) (by unfold z_un; omega)) l1 l8 fun σ4 f4 h4 j1 j8 => ?_)
  have y1 := alen_1048852
  have y2 := alen_2097301
  have y3 := alen_3146262
  have y4 := alen_4194839
  have y5 := alen_5244952
  have y6 := alen_6292505
  exact wp_eq (e1_12 ..) (wp_ret (k σ4 f4 _ _ h4 j1 j8 (by omega) (by omega)))
