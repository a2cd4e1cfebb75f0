/-! PART 95a (src 95a.rest.src): what lies beyond the counts stays as it is -/
set_option maxHeartbeats 400000
/-- B comes of A, and the peers that aren't there yet, their count, whose a question is: all as it was -/
def z_fz (A B : w_A) : Prop := (∀ q, vN A 0 0 ≤ q → (∀ v, v ≤ 11 → vI B v q = vI A v q) ∧ ∀ v, 7 ≤ v → v ≤ 10 → vN B v q = vN A v q) ∧ (∀ i, vN B 12 i = vN A 12 i ∨ vN B 12 i ≤ vN A 0 0) ∧ vN B 0 0 = vN A 0 0
theorem fz_refl (A : w_A) : z_fz A A := ⟨fun _ _ => ⟨fun _ _ => rfl, fun _ _ _ => rfl⟩, fun _ => .inl rfl, rfl⟩
theorem fz_trans {A B C : w_A} (h : z_fz A B) (g : z_fz B C) : z_fz A C := by
  refine ⟨fun q hq => ⟨fun v hv => ?_, fun v h7 h10 => ?_⟩, fun i => ?_, g.2.2.trans h.2.2⟩
  · rw [(g.1 q (by rw [h.2.2]; exact hq)).1 v hv, (h.1 q hq).1 v hv]
  · rw [(g.1 q (by rw [h.2.2]; exact hq)).2 v h7 h10, (h.1 q hq).2 v h7 h10]
  · rcases g.2.1 i with e | e
    · rw [e]; exact h.2.1 i
    · rw [h.2.2] at e; exact .inr e
theorem fz_I {A B : w_A} (f : z_fz A B) {w : Nat} (j : Nat) (x : Int32) (h : 12 ≤ w ∨ j < vN A 0 0) : z_fz A (sI B w j x) := by
  refine fz_trans f ⟨fun q hq => ⟨fun v hv => ?_, fun v _ _ => rfl⟩, fun i => .inl rfl, rfl⟩
  rw [f.2.2] at hq
  rw [vI_sI, if_neg (fun g => by omega)]
theorem fz_N {A B : w_A} (f : z_fz A B) {w : Nat} (j x : Nat) (h : w ≠ 0 ∧ w ≠ 12) (h2 : 7 ≤ w → w ≤ 10 → j < vN A 0 0) : z_fz A (sN B w j x) := by
  refine fz_trans f ⟨fun q hq => ⟨fun v hv => rfl, fun v h7 h10 => ?_⟩, fun i => .inl ?_, ?_⟩
  · rw [f.2.2] at hq
    rw [vN_sN, if_neg (fun g => by have := h2 (by omega) (by omega); omega)]
  · rw [vN_sN, if_neg (fun g => h.2 g.1.symm)]
  · rw [vN_sN, if_neg (fun g => h.1 g.1.symm)]
theorem fz_Q {A B : w_A} (f : z_fz A B) (j x : Nat) (h : x ≤ vN A 0 0) : z_fz A (sN B 12 j x) := by
  refine fz_trans f ⟨fun q hq => ⟨fun v hv => rfl, fun v h7 h10 => ?_⟩, fun i => ?_, rfl⟩
  · rw [vN_sN, if_neg (fun g => by omega)]
  · rw [vN_sN, f.2.2]
    split
    · exact .inr h
    · exact .inl rfl
theorem fz_J {A B : w_A} (f : z_fz A B) (w j : Nat) (x : Int64) : z_fz A (sJ B w j x) := f
theorem fz_L {A B : w_A} (f : z_fz A B) (w j : Nat) (x : List Int32) : z_fz A (sL B w j x) := f
theorem fz_P {A B : w_A} (f : z_fz A B) (x : Option w_P) : z_fz A (sP B x) := f
theorem fz_page {A B : w_A} (f : z_fz A B) (l : List Int32) : z_fz A (fn_page B l) := f
theorem fz_lost {A B : w_A} (f : z_fz A B) : z_fz A (fn_lost B) := fz_I f _ _ (.inl (by decide))
theorem fz_send {A B : w_A} (f : z_fz A B) (c : Nat) : z_fz A (fn_send B c) := by
  unfold fn_send
  split
  · exact f
  · exact fz_lost f
theorem fz_hop {A B : w_A} (f : z_fz A B) : z_fz A (fn_hop B) := fz_N f _ _ (by decide) (fun h => absurd h (by decide))
theorem fz_opening {A B : w_A} (f : z_fz A B) {p : Nat} (hp : p < vN A 0 0) : z_fz A (fn_sendOpening B p) := fz_send (fz_page (fz_I (fz_hop f) _ _ (.inr hp)) _) _
theorem fz_watch {A B : w_A} (f : z_fz A B) {p : Nat} (hp : p < vN A 0 0) : z_fz A (fn_sendWatch B p) := fz_send (fz_page (fz_I (fz_I (fz_hop f) _ _ (.inr hp)) _ _ (.inr hp)) _) _
theorem fz_sending {A B : w_A} (f : z_fz A B) {p : Nat} (hp : p < vN A 0 0) (x : Int32) : z_fz A (fn_sendEnding B p x) := fz_send (fz_page (fz_I (fz_hop f) _ _ (.inr hp)) _) _
theorem fz_ansCame {A B : w_A} (f : z_fz A B) (p : Nat) : z_fz A (fn_answerCame B p) := fz_send (fz_page f _) _
theorem fz_put {A B : w_A} (f : z_fz A B) (i : Nat) {b : Nat} (hb : b < vN A 0 0) : z_fz A (fn_put B i b) :=
  fz_send (fz_page (fz_N (fz_Q (fz_I (fz_I (fz_I (fz_hop f) _ _ (.inl (by decide))) _ _ (.inl (by decide))) _ _ (.inl (by decide))) _ _ hb) _ _ (by decide) (fun _ h => absurd h (by decide))) _) _
theorem fz_gstep {A B : w_A} (f : z_fz A B) (p i : Nat) : z_fz A (fn_gstep B p i) := by
  unfold fn_gstep
  split
  · split
    · rename_i b hb
      have := (fn_first_some hb).1
      rw [f.2.2] at this
      exact fz_put f i this
    · split
      · exact f
      · exact f
  · exact f
theorem fz_gloop {A : w_A} (p : Nat) : ∀ (r i : Nat) (B : w_A), z_fz A B → z_fz A (fn_gloop B p r i)
  | 0, _, B, f => f
  | r + 1, i, B, f => fz_gloop p r (i + 1) _ (fz_gstep f p i)
theorem fz_giveOver {A B : w_A} (f : z_fz A B) {p : Nat} (hp : p < vN A 0 0) : z_fz A (fn_giveOver B p) := fz_gloop p _ _ _ (fz_I f _ _ (.inr hp))
theorem fz_comeUp {A B : w_A} (f : z_fz A B) {p : Nat} (hp : p < vN A 0 0) : z_fz A (fn_comeUp B p) := by
  have h : z_fz A (sN B 8 p (vN B 5 0 + 30)) := fz_N f _ _ (by decide) (fun _ _ => hp)
  unfold fn_comeUp
  split
  · exact fz_I h _ _ (.inr hp)
  · exact fz_watch (fz_I (fz_I h _ _ (.inr hp)) _ _ (.inr hp)) hp
theorem fz_leave {A B : w_A} (f : z_fz A B) {p : Nat} (hp : p < vN A 0 0) : z_fz A (fn_leave B p) := fz_giveOver (fz_N (fz_I (fz_I f _ _ (.inr hp)) _ _ (.inr hp)) _ _ (by decide) (fun _ _ => hp)) hp
theorem fz_enter {A B : w_A} (f : z_fz A B) {p : Nat} (hp : p < vN A 0 0) (s : Int32) : z_fz A (fn_enter B p s) := by
  have h : z_fz A (sN (sI B 0 p s) 7 p (vN B 5 0 + 10)) := fz_N (fz_I f _ _ (.inr hp)) _ _ (by decide) (fun _ _ => hp)
  unfold fn_enter
  dsimp only
  split
  · split
    · exact h
    · exact fz_leave h hp
  · split
    · exact fz_comeUp h hp
    · exact h
theorem fz_close {A B : w_A} (f : z_fz A B) (c : Nat) : z_fz A (fn_close B c) := fz_N (fz_N (fz_I (fz_I f _ _ (.inl (by decide))) _ _ (.inl (by decide))) _ _ (by decide) (fun _ h => absurd h (by decide))) _ _ (by decide) (fun _ h => absurd h (by decide))
theorem fz_closeOwn {A B : w_A} (f : z_fz A B) {p : Nat} (hp : p < vN A 0 0) : z_fz A (fn_closeOwn B p) := by
  unfold fn_closeOwn
  split
  · exact f
  · exact fz_N (fz_close f _) _ _ (by decide) (fun _ _ => hp)
theorem fz_closeCame {A B : w_A} (f : z_fz A B) {p : Nat} (hp : p < vN A 0 0) : z_fz A (fn_closeCame B p) := by
  unfold fn_closeCame
  split
  · exact f
  · exact fz_N (fz_close f _) _ _ (by decide) (fun _ _ => hp)
theorem fz_shut {A B : w_A} (f : z_fz A B) {p : Nat} (hp : p < vN A 0 0) : z_fz A (fn_shut B p) := fz_enter (fz_closeCame (fz_closeOwn f hp) hp) hp 0
theorem fz_opened {A B : w_A} (f : z_fz A B) {p : Nat} (hp : p < vN A 0 0) : z_fz A (fn_opened B p) := fz_enter (fz_ansCame f p) hp 5
theorem fz_choose {A B : w_A} (f : z_fz A B) {p : Nat} (hp : p < vN A 0 0) : z_fz A (fn_choose B p) := by
  unfold fn_choose
  split
  · exact fz_opened (fz_closeOwn f hp) hp
  · exact fz_enter f hp 4
theorem fz_end {A B : w_A} (f : z_fz A B) {c : Nat} (hc : ¬ vN B 11 c = 0 → vN B 11 c - 1 < vN A 0 0) : z_fz A (fn_end B c) := by
  by_cases hz : vN B 11 c = 0
  · unfold fn_end
    rw [if_pos hz]
    exact fz_close f c
  have hp := hc hz
  have h : z_fz A (if vI B 13 c = 1 then fn_closeOwn B (vN B 11 c - 1) else fn_closeCame B (vN B 11 c - 1)) := by
    split
    · exact fz_closeOwn f hp
    · exact fz_closeCame f hp
  unfold fn_end
  rw [if_neg hz]
  dsimp only
  revert h hp
  generalize (if vI B 13 c = 1 then fn_closeOwn B (vN B 11 c - 1) else fn_closeCame B (vN B 11 c - 1)) = D
  intro hp h
  split
  · split
    · exact fz_opened h hp
    · exact fz_enter h hp _
  · split
    · split
      · exact fz_opened h hp
      · exact fz_enter h hp _
    · exact fz_shut h hp
theorem fz_fresh {A B : w_A} (f : z_fz A B) (c p : Nat) (s r : Int32) : z_fz A (fn_fresh B c s p r) := fz_L (fz_N (fz_N (fz_I (fz_I f _ _ (.inl (by decide))) _ _ (.inl (by decide))) _ _ (by decide) (fun _ h => absurd h (by decide))) _ _ (by decide) (fun _ h => absurd h (by decide))) _ _ _
theorem fz_begin {A B : w_A} (f : z_fz A B) {p : Nat} (hp : p < vN A 0 0) (c : Nat) : z_fz A (fn_begin B p c) := fz_enter (fz_N (fz_fresh f c (p + 1) 1 1) _ _ (by decide) (fun _ _ => hp)) hp 1
theorem fz_ring {A B : w_A} (f : z_fz A B) {p : Nat} (hp : p < vN A 0 0) : z_fz A (fn_ring B p) := by
  have h : z_fz A (sN B 8 p (vN B 5 0 + 30)) := fz_N f _ _ (by decide) (fun _ _ => hp)
  unfold fn_ring
  dsimp only
  split
  · split
    · exact fz_watch h hp
    · exact fz_giveOver (fz_I h _ _ (.inr hp)) hp
  · split
    · exact fz_shut h hp
    · split
      · split
        · exact fz_watch h hp
        · exact fz_shut h hp
      · split
        · split
          · exact fz_begin h hp _
          · exact h
        · exact h
theorem fz_pt {A B : w_A} (f : z_fz A B) {p : Nat} (hp : p < vN A 0 0) : z_fz A (fn_pt B p).1 := by
  have h1 : z_fz A (if fn_given B p ∧ vN B 7 p = vN B 5 0 then (fn_shut B p, 1) else (B, 0) : w_A × Nat).1 := by
    split
    · exact fz_shut f hp
    · exact f
  unfold fn_pt
  dsimp only
  generalize (if fn_given B p ∧ vN B 7 p = vN B 5 0 then (fn_shut B p, 1) else (B, 0) : w_A × Nat) = r at *
  split
  · exact fz_ring h1 hp
  · exact h1
theorem fz_pts {A : w_A} : ∀ (f p d : Nat) (B : w_A), p + f = vN A 0 0 → z_fz A B → z_fz A (fn_pts f p B d).1
  | 0, p, d, B, hf, h => h
  | f + 1, p, d, B, hf, h => by
    rw [pts_s]
    exact fz_pts f (p + 1) _ _ (by omega) (fz_pt h (by omega))
theorem fz_cf {A B D : w_A} (f : z_fz A B) (c : z_cf B D) : z_fz A D :=
  fz_trans f ⟨fun q _ => ⟨fun v hv => c.1 v q (by omega) (by show v ≠ 14; omega), fun v h7 h10 => c.2.1 v q (by omega)⟩, fun i => .inl (c.2.1 _ i (by decide)), c.2.1 _ _ (by decide)⟩
theorem fz_df {A B D : w_A} (f : z_fz A B) (c : z_df B D) : z_fz A D :=
  fz_trans f ⟨fun q _ => ⟨fun v hv => c.1 v q (by show v ≠ 20; omega) (by show v ≠ 21; omega) (by show v ≠ 19; omega), fun v h7 h10 => c.2.2.1 v q (by show v ≠ 2; omega) (by show v ≠ 13; omega) (by show v ≠ 16; omega) (by show v ≠ 17; omega)⟩, fun i => .inl (c.2.2.1 _ i (by decide) (by decide) (by decide) (by decide)), c.2.2.1 _ _ (by decide) (by decide) (by decide) (by decide)⟩
theorem fz_go {A B : w_A} (f : z_fz A B) (s : Nat) : z_fz A (fn_go B s) := fz_df f (df_remove (df_settle B s 0) s)
theorem fz_sts {A : w_A} : ∀ (f s d : Nat) (B : w_A), z_fz A B → z_fz A (fn_sts f s B d).1
  | 0, s, d, B, h => h
  | f + 1, s, d, B, h => by
    rw [sts_s]
    split
    · exact fz_sts f s _ _ (fz_go h s)
    · exact fz_sts f (s + 1) _ _ h
theorem fz_nx {A B : w_A} (f : z_fz A B) : z_fz A (fn_nx B) := fz_N f _ _ (by decide) (fun h => absurd h (by decide))
theorem fz_sec {A B : w_A} (f : z_fz A B) : z_fz A (fn_sec B).1 := by
  rw [fn_sec_eq]
  have h := fz_nx f
  exact fz_sts _ _ _ _ (fz_pts _ _ _ _ (by rw [h.2.2, Nat.zero_add]) h)
theorem fz_tick {A : w_A} : ∀ (f d : Nat) (B : w_A), z_fz A B → z_fz A (fn_tick f B d).1
  | 0, d, B, h => h
  | f + 1, d, B, h => by
    rw [tick_s]
    exact fz_tick f _ _ (fz_sec h)
/-! messages -/
theorem fz_stale {A B : w_A} (f : z_fz A B) : z_fz A (fn_stale B) := fz_cf f (stale_cf B)
theorem fz_keep {A B : w_A} (f : z_fz A B) (P : w_P) : z_fz A (fn_keep B P) :=
  fz_trans f ⟨fun q _ => ⟨fun v hv => keep_I B P (by show v ≠ 18; omega) q, fun v h7 h10 => keep_N B P (by show v ≠ 4; omega) (by show v ≠ 15; omega) (by show v ≠ 18; omega) q⟩, fun i => .inl (keep_N B P (by decide) (by decide) (by decide) i), keep_N B P (by decide) (by decide) (by decide) 0⟩
theorem fz_credit {A B : w_A} (f : z_fz A B) (c p : Nat) (P : w_P) : z_fz A (fn_credit B c p P) := by
  have h := fz_stale f
  unfold fn_credit
  dsimp only
  split
  · exact fz_send (fz_page h _) _
  · have h2 : z_fz A (sI (sN (fn_stale B) 16 0 0) 19 0 (-1)) := fz_I (fz_N h _ _ (by decide) (fun _ h => absurd h (by decide))) _ _ (.inl (by decide))
    have h3 := fz_df h2 (decide_df (sI (sN (fn_stale B) 16 0 0) 19 0 (-1)) P p).1
    exact fz_N (fz_send (fz_keep (fz_page h3 _) P) _) _ _ (by decide) (fun _ h => absurd h (by decide))
theorem fz_askAns {A B : w_A} (f : z_fz A B) (p : Nat) (P : w_P) : z_fz A (fn_askAns B p P) := by
  unfold fn_askAns
  split
  · exact f
  · exact fz_lost f
theorem fz_work {A B : w_A} (f : z_fz A B) (c : Nat) {p : Nat} (hp : p < vN A 0 0) (P : w_P) : z_fz A (fn_work B c p P) := by
  unfold fn_work
  split
  · exact fz_askAns f p P
  split
  · exact fz_send (fz_page f _) _
  split
  · exact fz_send (fz_page f _) _
  split
  · exact fz_send (fz_page f _) _
  split
  · exact fz_enter (fz_I (fz_send (fz_page f _) _) _ _ (.inr hp)) hp 7
  · exact fz_credit f c p P
theorem fz_heard {A B : w_A} (f : z_fz A B) (c : Nat) {p : Nat} (hp : p < vN A 0 0) (P : w_P) : z_fz A (fn_heard B c p P) := by
  have h : z_fz A (sI B 2 p 0) := fz_I f _ _ (.inr hp)
  unfold fn_heard
  split
  · dsimp only
    split
    · exact fz_I (fz_N h _ _ (by decide) (fun _ _ => hp)) _ _ (.inr hp)
    · split
      · exact fz_I (fz_I h _ _ (.inr hp)) _ _ (.inr hp)
      · exact fz_I h _ _ (.inr hp)
  · split
    · exact fz_work (fz_I (fz_N f _ _ (by decide) (fun _ _ => hp)) _ _ (.inr hp)) c hp P
    · split
      · exact fz_lost f
      · exact fz_work f c hp P
theorem fz_asking {A B : w_A} (f : z_fz A B) {p : Nat} (hp : p < vN A 0 0) (ho : ¬ vN B 11 (vN B 9 p) = 0 → vN B 11 (vN B 9 p) - 1 < vN A 0 0) (P : w_P) : z_fz A (fn_asking B p P) := by
  unfold fn_asking
  split
  · exact fz_enter (fz_closeCame f hp) hp 6
  · exact fz_end (fz_lost f) ho
theorem fz_strange {A B : w_A} (f : z_fz A B) (c : Nat) (P : w_P) : z_fz A (fn_strange B c P) := by
  have cl : ∀ l, z_fz A (fn_close (fn_send (fn_page B l) c) c) := fun l => fz_close (fz_send (fz_page f l) c) c
  unfold fn_strange
  split
  · exact cl _
  split
  · exact fz_close (fz_lost f) c
  split
  · exact cl _
  · rename_i p hl
    have hp := (last_some hl).1
    rw [f.2.2] at hp
    split
    · exact cl _
    split
    · exact cl _
    have h : z_fz A (sN (sN (sI (sI (sI (sI B 13 c 2) 8 p (pF P)) 9 p (pH P)) 10 p (pE P)) 11 c (p + 1)) 10 p c) := fz_N (fz_N (fz_I (fz_I (fz_I (fz_I f _ _ (.inl (by decide))) _ _ (.inr hp)) _ _ (.inr hp)) _ _ (.inr hp)) _ _ (by decide) (fun _ h => absurd h (by decide))) _ _ (by decide) (fun _ _ => hp)
    dsimp only
    split
    · exact fz_opened h hp
    split
    · exact fz_enter h hp 3
    · exact fz_choose h hp
theorem fz_ending {A B : w_A} (f : z_fz A B) {p : Nat} (hp : p < vN A 0 0) (P : w_P) : z_fz A (fn_ending B p P) := by
  unfold fn_ending
  split
  · exact fz_shut f hp
  · exact fz_lost f
theorem fz_hear {A B : w_A} (f : z_fz A B) {c : Nat} (hc : ∀ d, 1 ≤ d → d ≤ 8 → ¬ vN B 11 d = 0 → vN B 11 d - 1 < vN A 0 0) (h1 : 1 ≤ c) (h8 : c ≤ 8) (hb : ∀ p, vN B 9 p ≤ 8) (h0 : ∀ p, (vI B 0 p = 2 ∨ vI B 0 p = 4) → p = vN B 11 c - 1 → ¬ vN B 9 p = 0) (P : w_P) : z_fz A (fn_hear B c P) := by
  unfold fn_hear
  split
  · exact fz_strange f c P
  · rename_i hz
    have hp := hc c h1 h8 hz
    dsimp only
    split
    · exact fz_heard f c hp P
    split
    · exact fz_ending f hp P
    split
    · rename_i hs
      refine fz_asking f hp (hc _ ?_ (hb _)) P
      have := h0 _ hs.1 rfl
      omega
    · exact fz_lost f
