/-! PART 95b (src 95b.zero.src): accounts beyond the count; octets; what isn't there yet is zero -/
set_option maxHeartbeats 400000
set_option maxRecDepth 20000
def z_fa (A B : w_A) : Prop := vN B 1 0 = vN A 1 0 ∧ ∀ a, vN A 1 0 ≤ a → ∀ v, v ≤ 3 → vJ B v a = vJ A v a
theorem fa_refl (A : w_A) : z_fa A A := ⟨rfl, fun _ _ _ _ => rfl⟩
theorem fa_trans {A B C : w_A} (h : z_fa A B) (g : z_fa B C) : z_fa A C := ⟨g.1.trans h.1, fun a ha v hv => (g.2 a (by rw [h.1]; exact ha) v hv).trans (h.2 a ha v hv)⟩
theorem fa_fr {A B D : w_A} (f : z_fa A B) (h : z_fr B D) : z_fa A D := fa_trans f ⟨h.2.2.2.1 _ _ (.inl (by decide)), fun a _ v hv => h.1 v a (by show v ≠ 4; omega)⟩
theorem fa_J {A B : w_A} (f : z_fa A B) {w : Nat} (j : Nat) (x : Int64) (h : 4 ≤ w ∨ j < vN A 1 0) : z_fa A (sJ B w j x) := by
  refine fa_trans f ⟨rfl, fun a ha v hv => ?_⟩
  rw [f.1] at ha
  rw [vJ_sJ, if_neg (fun g => by omega)]
theorem fa_N {A B : w_A} (f : z_fa A B) {w : Nat} (j x : Nat) (h : w ≠ 1) : z_fa A (sN B w j x) := by
  refine fa_trans f ⟨?_, fun a ha v hv => rfl⟩
  rw [vN_sN, if_neg (fun g => h g.1.symm)]
theorem fa_L {A B : w_A} (f : z_fa A B) (w j : Nat) (x : List Int32) : z_fa A (sL B w j x) := f
theorem fa_P {A B : w_A} (f : z_fa A B) (x : Option w_P) : z_fa A (sP B x) := f
theorem fa_settle {A B : w_A} (f : z_fa A B) {s : Nat} (h : vN B 13 s - 1 < vN A 1 0) (u : Int64) : z_fa A (fn_settle B s u) := fa_J (fa_J (fa_J (fa_J f _ _ (.inr h)) _ _ (.inr h)) _ _ (.inr h)) _ _ (.inl (by decide))
theorem fa_note {A B : w_A} (f : z_fa A B) (P : w_P) (p s : Nat) : z_fa A (fn_note B P p s) := fa_trans f ⟨rfl, fun a ha v hv => by
  unfold fn_note
  show vJ (sJ _ 6 s _) v a = _
  rw [vJ_sJ, if_neg (fun g => by omega)]
  rfl⟩
theorem fa_grant {A B : w_A} (f : z_fa A B) {s : Nat} (h : vN B 13 s - 1 < vN A 1 0) (P : w_P) : z_fa A (fn_grant B P s) := by
  unfold fn_grant
  dsimp only
  refine fa_N ?_ _ _ (by decide)
  exact fa_J (fa_J f _ _ (.inl (by decide))) _ _ (.inr h)
theorem fa_remove {A B : w_A} (f : z_fa A B) (s : Nat) : z_fa A (fn_remove B s) := by
  refine fa_trans f ⟨rfl, fun a ha v hv => ?_⟩
  show vJ (tJ (tJ _ 5 _) 6 _) v a = _
  rw [vJ_tJ, if_neg (by omega), vJ_tJ, if_neg (by omega)]
  rfl
theorem decide_fa {A : w_A} {P : w_P} {p : Nat} (hS : z_S1 A) : z_fa A (fn_decide A P p).1 := by
  have hac : ∀ s, s < vN A 2 0 → vN A 13 s - 1 < vN A 1 0 := fun s hs => by
    have := hS s hs
    omega
  unfold fn_decide
  dsimp only
  split
  · exact fa_refl A
  split
  · unfold fn_begins
    cases hsub : fn_sub A P with
    | none => exact fa_refl A
    | some a =>
      have ha := sub_lt hsub
      dsimp only
      split
      · exact fa_refl A
      split
      · exact fa_refl A
      · refine fa_grant (fa_note (fa_J (fa_N (fa_L (fa_N (fa_refl A) _ _ (by decide)) _ _ _) _ _ (by decide)) _ _ (.inl (by decide))) _ _ _) ?_ P
        show (if _ then a + 1 else _) - 1 < _
        rw [if_pos ⟨rfl, rfl⟩]
        omega
  split
  · unfold fn_goes
    cases hse : fn_sess A P with
    | none => exact fa_refl A
    | some s =>
      have hs := sess_lt hse
      dsimp only
      split
      · exact fa_refl A
      · have h2 := fa_note (fa_settle (fa_refl A) (hac s hs) (fn_used A P)) P p s
        split
        · exact fa_grant h2 (hac s hs) P
        · exact h2
  split
  · unfold fn_ends
    cases hse : fn_sess A P with
    | none => exact fa_refl A
    | some s =>
      have hs := sess_lt hse
      dsimp only
      split
      · exact fa_refl A
      · exact fa_remove (fa_settle (fa_refl A) (hac s hs) (fn_used A P)) s
  · unfold fn_event
    cases hsub : fn_sub A P with
    | none => exact fa_refl A
    | some a =>
      have ha := sub_lt hsub
      dsimp only
      generalize (if fn_units (vI A 64) P 437 < 0 then (0 : Int64) else fn_units (vI A 64) P 437) = w
      split
      · exact fa_refl A
      split
      · split
        · exact fa_refl A
        · exact fa_J (fa_J (fa_refl A) _ _ (.inr ha)) _ _ (.inr ha)
      · split
        · exact fa_refl A
        · exact fa_J (fa_J (fa_refl A) _ _ (.inr ha)) _ _ (.inr ha)
theorem fa_stale (A : w_A) : z_fa A (fn_stale A) := ⟨stl_N (by decide) (by decide) (by decide) 0 _ _, fun a _ v _ => stl_J v a _ _⟩
theorem S1_stale {A : w_A} (h1 : z_S1 A) : z_S1 (fn_stale A) := by
  have eN : ∀ {v : Nat} (i : Nat), v ≠ 4 → v ≠ 15 → v ≠ 18 → vN (fn_stale A) v i = vN A v i := fun i a b c => stl_N a b c i _ _
  have eJ : ∀ v i, vJ (fn_stale A) v i = vJ A v i := fun v i => stl_J v i _ _
  have eI : ∀ {v : Nat} (i : Nat), v ≠ 18 → vI (fn_stale A) v i = vI A v i := fun i a => stl_I a i _ _
  intro s hs
  rw [eN 0 (by decide) (by decide) (by decide)] at hs
  rw [eN s (v := 13) (by decide) (by decide) (by decide), eN 0 (v := 1) (by decide) (by decide) (by decide), eJ, eN 0 (v := 0) (by decide) (by decide) (by decide), eI s (v := 20) (by decide), eI s (v := 21) (by decide), eN 0 (v := 5) (by decide) (by decide) (by decide)]
  exact h1 s hs
theorem fa_credit {A : w_A} (hS0 : z_S1 A) (c p : Nat) (P : w_P) : z_fa A (fn_credit A c p P) := by
  have h := fa_stale A
  have hS := S1_stale hS0
  unfold fn_credit
  dsimp only
  split
  · exact fa_fr h (fr_sd (fr_page _ _) _)
  · have h2 : z_fa A (sI (sN (fn_stale A) 16 0 0) 19 0 (-1)) := fa_N h _ _ (by decide)
    have h3 := fa_trans h2 (decide_fa (A := sI (sN (fn_stale A) 16 0 0) 19 0 (-1)) (P := P) (p := p) hS)
    refine fa_N (fa_fr (fa_trans (fa_fr h3 (fr_page _ _)) ⟨?_, fun a _ v _ => keep_J _ P v a⟩) (fr_send _ _)) _ _ (by decide)
    exact keep_N _ P (by decide) (by decide) (by decide) 0
theorem fa_work {A : w_A} (hW : z_S1 A) (c p : Nat) (P : w_P) : z_fa A (fn_work A c p P) := by
  unfold fn_work
  split
  · exact fa_fr (fa_refl A) (fr_askAns A p P)
  split
  · exact fa_fr (fa_refl A) (fr_refuse A c P)
  split
  · exact fa_fr (fa_refl A) (fr_plain A c P _)
  split
  · exact fa_fr (fa_refl A) (fr_sd (fr_page _ _) _)
  split
  · exact fa_fr (fa_refl A) (fr_trans (fr_sI (fr_plain A c P _) (by decide) (by decide) (by decide) _ _) (fr_enter _ p 7))
  · exact fa_credit hW c p P
theorem fa_heard {A : w_A} (hW : z_S1 A) (c p : Nat) (P : w_P) : z_fa A (fn_heard A c p P) := by
  have fA : z_fr A (sI A 2 p 0) := fr_I A (by decide) (by decide) (by decide) _ _
  unfold fn_heard
  split
  · dsimp only
    split
    · exact fa_fr (fa_refl A) (fr_sI (fr_trans fA (fr_DUE (sI A 2 p 0) p rfl)) (by decide) (by decide) (by decide) _ _)
    · split
      · exact fa_fr (fa_refl A) (fr_sI (fr_sI fA (by decide) (by decide) (by decide) _ _) (by decide) (by decide) (by decide) _ _)
      · exact fa_fr (fa_refl A) (fr_sI fA (by decide) (by decide) (by decide) _ _)
  · split
    · have h1 : z_S1 (sI (sN A 8 p (vN A 5 0 + 30)) 1 p 1) := hW
      have h2 : z_fr A (sI (sN A 8 p (vN A 5 0 + 30)) 1 p 1) := fr_sI (fr_DUE A p rfl) (by decide) (by decide) (by decide) _ _
      exact fa_trans (fa_fr (fa_refl A) h2) (fa_work h1 c p P)
    · split
      · exact fa_fr (fa_refl A) (fr_lost A)
      · exact fa_work hW c p P
theorem fa_hear {A : w_A} (hW : z_S1 A) (c : Nat) (P : w_P) : z_fa A (fn_hear A c P) := by
  unfold fn_hear
  split
  · exact fa_fr (fa_refl A) (fr_strange A c P)
  · dsimp only
    split
    · exact fa_heard hW c _ P
    split
    · exact fa_fr (fa_refl A) (fr_ending A _ P)
    split
    · exact fa_fr (fa_refl A) (fr_asking A _ P)
    · exact fa_fr (fa_refl A) (fr_lost A)
/-- octets -/
theorem C_cp {n : Nat} {A : w_A} (h : z_C n A) {c : Nat} (h1 : 1 ≤ c) (h8 : c ≤ 8) (hz : ¬ vN A 11 c = 0) : vN A 11 c - 1 < vN A 0 0 := by
  rcases h.2.1.2 c h1 h8 with k | ⟨p, hp, k1, k2⟩
  · exact absurd k.1 hz
  · have ep : vN A 11 c - 1 = p := by omega
    rw [ep]
    rcases (h.2.1.1 p hp).1.2.2 with g | g
    · exact g
    · rcases k2 with k2 | k2
      · have := k2.2; omega
      · have := k2.2; omega
theorem C_own {n : Nat} {A : w_A} (h : z_C n A) {p : Nat} (hp : p < 4) (hs : vI A 0 p = 2 ∨ vI A 0 p = 4) : ¬ vN A 9 p = 0 := by
  have hps := (h.2.1.1 p hp).2.2
  rcases hps with g | g | g | g | g | g | g | g
  · rcases hs with e | e <;> rw [g.1] at e <;> exact absurd e (by decide)
  · exact g.2.1
  · exact g.2.1
  · exact g.2.1
  · exact g.2.1
  · rcases hs with e | e <;> rw [g.1] at e <;> exact absurd e (by decide)
  · exact g.2.1
  · rcases hs with e | e <;> rw [g.1] at e <;> exact absurd e (by decide)
theorem fz_octet {n : Nat} {A : w_A} (h : z_W n A) {c : Nat} (h1 : 1 ≤ c) (h8 : c ≤ 8) (x : Int32) : z_fz A (fn_octet A c x).1 := by
  have hf : z_fz A (sN (sI A 64 (600 * c + vN A 14 c) x) 14 c (vN A 14 c + 1)) := fz_N (fz_I (fz_refl A) _ _ (.inl (by decide))) _ _ (by decide) (fun _ h => absurd h (by decide))
  have hp4 := h.1.1.1.1.1
  unfold fn_octet
  dsimp only
  split
  · exact hf
  split
  · exact fz_end hf (fun g => C_cp h.1 h1 h8 g)
  split
  · have h0 : ∀ y, z_fz A (sP (sN (sN (sI A 64 (600 * c + vN A 14 c) x) 14 c (vN A 14 c + 1)) 14 c 0) y) := fun y => fz_P (fz_N hf c 0 (by decide) (fun _ h => absurd h (by decide))) y
    refine fz_P (fz_hear (h0 _) (fun d d1 d8 g => C_cp h.1 d1 d8 g) h1 h8 (fun p => (h.1.1.1.2.2.1 p).1) (fun p hs hpe => ?_) _) none
    have hpe : p = vN A 11 c - 1 := hpe
    have hb := (h.1.1.1.2.2.2.1 c).1
    exact C_own h.1 (by omega) hs
  · exact hf
theorem fa_octet {A : w_A} (hS : z_S1 A) (c : Nat) (x : Int32) : z_fa A (fn_octet A c x).1 := by
  have hf : z_fa A (sN (sI A 64 (600 * c + vN A 14 c) x) 14 c (vN A 14 c + 1)) := fa_N (fa_refl A) _ _ (by decide)
  unfold fn_octet
  dsimp only
  split
  · exact hf
  split
  · exact fa_fr hf (fr_end _ c)
  split
  · have h0 : ∀ y, z_fa A (sP (sN (sN (sI A 64 (600 * c + vN A 14 c) x) 14 c (vN A 14 c + 1)) 14 c 0) y) := fun y => fa_P (fa_N hf c 0 (by decide)) y
    have h2 : ∀ y, z_S1 (sP (sN (sN (sI A 64 (600 * c + vN A 14 c) x) 14 c (vN A 14 c + 1)) 14 c 0) y) := fun y => hS
    exact fa_P (fa_trans (h0 _) (fa_hear (h2 _) c _)) none
  · exact hf
theorem credit_N (A : w_A) (c p : Nat) (P : w_P) : vN (fn_credit A c p P) 5 0 = vN A 5 0 := by
  have e0 : vN (fn_stale A) 5 0 = vN A 5 0 := stl_N (by decide) (by decide) (by decide) 0 _ _
  unfold fn_credit
  dsimp only
  split
  · exact (vN_send ..).trans e0
  · rw [vN_sN, if_neg (fun g => absurd g.1 (by decide)), vN_send, keep_N _ P (by decide) (by decide) (by decide) 0]
    exact ((decide_df (sI (sN (fn_stale A) 16 0 0) 19 0 (-1)) P p).1.2.2.1 _ _ (by decide) (by decide) (by decide) (by decide)).trans e0
theorem fr_now {A B : w_A} (f : z_fr A B) : vN B 5 0 = vN A 5 0 := f.2.2.2.1 _ _ (.inl (by decide))
theorem work_N (A : w_A) (c p : Nat) (P : w_P) : vN (fn_work A c p P) 5 0 = vN A 5 0 := by
  unfold fn_work
  split
  · exact fr_now (fr_askAns A p P)
  split
  · exact fr_now (fr_refuse A c P)
  split
  · exact fr_now (fr_plain A c P _)
  split
  · exact fr_now (fr_sd (fr_page _ _) _)
  split
  · exact fr_now (fr_trans (fr_sI (fr_plain A c P _) (by decide) (by decide) (by decide) _ _) (fr_enter _ p 7))
  · exact credit_N A c p P
theorem heard_N (A : w_A) (c p : Nat) (P : w_P) : vN (fn_heard A c p P) 5 0 = vN A 5 0 := by
  unfold fn_heard
  split
  · dsimp only
    split
    · rfl
    · split <;> rfl
  · split
    · exact work_N (sI (sN A 8 p (vN A 5 0 + 30)) 1 p 1) c p P
    · split
      · rfl
      · exact work_N A c p P
theorem hear_N (A : w_A) (c : Nat) (P : w_P) : vN (fn_hear A c P) 5 0 = vN A 5 0 := by
  unfold fn_hear
  split
  · exact fr_now (fr_strange A c P)
  · dsimp only
    split
    · exact heard_N A c _ P
    split
    · exact fr_now (fr_ending A _ P)
    split
    · exact fr_now (fr_asking A _ P)
    · rfl
theorem octet_N (A : w_A) (c : Nat) (x : Int32) : vN (fn_octet A c x).1 5 0 = vN A 5 0 := by
  unfold fn_octet
  dsimp only
  split
  · rfl
  split
  · exact (fr_now (fr_end (sN (sI A 64 (600 * c + vN A 14 c) x) 14 c (vN A 14 c + 1)) c)).trans rfl
  split
  · dsimp only
    rw [vN_sP, hear_N]
    rfl
  · rfl
/-- a feed keeps it all -/
theorem feed_W {c : Nat} (h1 : 1 ≤ c) (h8 : c ≤ 8) (x : Nat → Int32) (hx : ∀ k, nb (x k) = x k) (N : Nat) : ∀ (f n : Nat) (A : w_A) (dn : Nat), z_W n A → vP A = none → n + 64 * f < 2147483648 → z_W (n + 64 * f) (fn_feed c x N f A dn).1 ∧ vP (fn_feed c x N f A dn).1 = none ∧ z_fz A (fn_feed c x N f A dn).1 ∧ z_fa A (fn_feed c x N f A dn).1 ∧ vN (fn_feed c x N f A dn).1 5 0 = vN A 5 0
  | 0, n, A, dn, hW, hP, hn => ⟨hW, hP, fz_refl A, fa_refl A, rfl⟩
  | f + 1, n, A, dn, hW, hP, hn => by
    rw [feed_s]
    by_cases h2 : vI A 12 c = 2
    · rw [if_pos h2]
      have hW2 := W_octet hW (by omega) h1 h8 h2 (hx (N - (f + 1)))
      have hP2 := octet_P A c (x (N - (f + 1))) hP
      have hz := fz_octet hW h1 h8 (x (N - (f + 1)))
      have ha := fa_octet hW.2.2.1 c (x (N - (f + 1)))
      have hN := octet_N A c (x (N - (f + 1)))
      obtain ⟨g1, g2, g3, g4, g5⟩ := feed_W h1 h8 x hx N f (n + 64) _ (dn + (fn_octet A c (x (N - (f + 1)))).2) hW2 hP2 (by omega)
      refine ⟨?_, g2, fz_trans hz g3, fa_trans ha g4, g5.trans hN⟩
      rw [show n + 64 * (f + 1) = n + 64 + 64 * f by omega]
      exact g1
    · rw [if_neg h2]
      exact ⟨W_mono (by omega) hW, hP, fz_refl A, fa_refl A, rfl⟩
/-- what isn't there yet is zero -/
def z_ZR (A : w_A) : Prop := (∀ q, vN A 0 0 ≤ q → (∀ v, v ≤ 11 → vI A v q = 0) ∧ ∀ v, 7 ≤ v → v ≤ 10 → vN A v q = 0) ∧ (∀ i, vN A 12 i ≤ vN A 0 0) ∧ ∀ a, vN A 1 0 ≤ a → ∀ v, v ≤ 3 → vJ A v a = 0
theorem ZR_of {A B : w_A} (h : z_ZR A) (f : z_fz A B) (g : z_fa A B) : z_ZR B := by
  refine ⟨fun q hq => ⟨fun v hv => ?_, fun v h7 h10 => ?_⟩, fun i => ?_, fun a ha v hv => ?_⟩
  · rw [f.2.2] at hq
    rw [(f.1 q hq).1 v hv]
    exact (h.1 q hq).1 v hv
  · rw [f.2.2] at hq
    rw [(f.1 q hq).2 v h7 h10]
    exact (h.1 q hq).2 v h7 h10
  · rw [f.2.2]
    rcases f.2.1 i with e | e
    · rw [e]; exact h.2.1 i
    · exact e
  · rw [g.1] at ha
    rw [g.2 a ha v hv]
    exact h.2.2 a ha v hv
/-! seconds -/
theorem fr_pts : ∀ (f p d : Nat) (A : w_A), z_fr A (fn_pts f p A d).1
  | 0, _, _, A => fr_refl A
  | f + 1, p, d, A => by
    rw [pts_s]
    exact fr_trans (fr_pt A p) (fr_pts f (p + 1) _ _)
theorem fa_sts {A : w_A} : ∀ (f s d : Nat) (B : w_A), s + f = vN B 2 0 → z_fa A B → (∀ r, r < vN B 2 0 → vN B 13 r - 1 < vN A 1 0) → z_fa A (fn_sts f s B d).1
  | 0, s, d, B, hf, h, hs => h
  | f + 1, s, d, B, hf, h, hs => by
    rw [sts_s]
    split
    · refine fa_sts f s (d + 1) (fn_go B s) (by show s + f = vN B 2 0 - 1; omega) (fa_remove (fa_settle h (hs s (by omega)) 0) s) (fun r hr => ?_)
      have hr : r < vN B 2 0 - 1 := hr
      show fn_out (vN B 2 0) s (vN B 13) r - 1 < vN A 1 0
      unfold fn_out
      split
      · exact hs (r + 1) (by omega)
      · exact hs r (by omega)
    · exact fa_sts f (s + 1) d B (by omega) h hs
theorem fa_sec {A : w_A} (h : z_S1 A) : z_fa A (fn_sec A).1 := by
  rw [fn_sec_eq]
  have f := fr_pts (vN (fn_nx A) 0 0) 0 0 (fn_nx A)
  have h1 : z_fa A (fn_pts (vN (fn_nx A) 0 0) 0 (fn_nx A) 0).1 := fa_fr (fa_N (fa_refl A) _ _ (by decide)) f
  refine fa_sts _ 0 _ _ (Nat.zero_add _) h1 (fun r hr => ?_)
  rw [f.2.2.2.1 2 0 (.inl (by decide))] at hr
  rw [f.2.2.2.1 13 r (.inr (.inl rfl))]
  have := h r hr
  show vN A 13 r - 1 < _
  omega
theorem fa_tick : ∀ (f n d : Nat) (A : w_A), z_W n A → vN A 5 0 + f ≤ 200000 → n + 512 * f < 2147483648 → z_fa A (fn_tick f A d).1
  | 0, n, d, A, h, hn, hm => fa_refl A
  | f + 1, n, d, A, h, hn, hm => by
    obtain ⟨a, b, c⟩ := W_sec h (by omega) (by omega)
    rw [tick_s]
    exact fa_trans (fa_sec h.2.2.1) (fa_tick f (n + 512) _ _ a (by omega) (by omega))
theorem sts_P : ∀ (f s d : Nat) (A : w_A), vP (fn_sts f s A d).1 = vP A
  | 0, _, _, _ => rfl
  | f + 1, s, d, A => by
    rw [sts_s]
    split
    · exact sts_P f s (d + 1) (fn_go A s)
    · exact sts_P f (s + 1) d A
theorem tick_P : ∀ (f d : Nat) (A : w_A), vP A = none → vP (fn_tick f A d).1 = none
  | 0, d, A, h => h
  | f + 1, d, A, h => by
    rw [tick_s]
    refine tick_P f _ _ ?_
    rw [fn_sec_eq, sts_P, (fr_pts _ _ _ _).2.2.1]
    exact h
