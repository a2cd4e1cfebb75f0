/-! PART 72 (src 72.frame.src): what the peers' functions leave alone -/
set_option maxHeartbeats 400000
/-- B comes of A by what peers and connections do -/
def z_fr (A B : w_A) : Prop :=
  (∀ v i, v ≠ 4 → vJ B v i = vJ A v i)
  ∧ (∀ v i, v ≠ 3 → v ≠ 12 → vL B v i = vL A v i)
  ∧ vP B = vP A
  ∧ (∀ v i, v ≤ 5 ∨ v = 13 ∨ (15 ≤ v ∧ v ≤ 18) → vN B v i = vN A v i)
  ∧ (∀ v i, v = 11 ∨ 18 ≤ v → vI B v i = vI A v i)
  ∧ (∀ c, vN B 14 c = vN A 14 c ∨ vN B 14 c = 0)
  ∧ (∀ p, vN B 8 p = vN A 8 p ∨ vN B 8 p = vN A 5 0 + 30)
  ∧ (∀ p, (vI B 0 p = vI A 0 p ∧ vN B 7 p = vN A 7 p) ∨ vN B 7 p = vN A 5 0 + 10)
theorem fr_refl (A : w_A) : z_fr A A := ⟨fun _ _ _ => rfl, fun _ _ _ _ => rfl, rfl, fun _ _ _ => rfl, fun _ _ _ => rfl, fun _ => .inl rfl, fun _ => .inl rfl, fun _ => .inl ⟨rfl, rfl⟩⟩
theorem fr_trans {A B C : w_A} (h : z_fr A B) (g : z_fr B C) : z_fr A C := by
  obtain ⟨h1, h2, h3, h4, h5, h6, h7, h8⟩ := h
  obtain ⟨g1, g2, g3, g4, g5, g6, g7, g8⟩ := g
  have hn : vN B 5 0 = vN A 5 0 := h4 _ _ (.inl (by decide))
  refine ⟨fun v i e => (g1 v i e).trans (h1 v i e), fun v i e e2 => (g2 v i e e2).trans (h2 v i e e2), g3.trans h3, fun v i e => (g4 v i e).trans (h4 v i e), fun v i e => (g5 v i e).trans (h5 v i e), fun c => ?_, fun p => ?_, fun p => ?_⟩
  · rcases g6 c with e | e
    · rw [e]; exact h6 c
    · exact .inr e
  · rcases g7 p with e | e
    · rw [e]; exact h7 p
    · exact .inr (by rw [e, hn])
  · rcases g8 p with ⟨e, e2⟩ | e
    · rw [e, e2]; exact h8 p
    · exact .inr (by rw [e, hn])
theorem fr_I (A : w_A) {w : Nat} (h : w ≠ 0) (h1 : w ≠ 11) (h2 : w < 18) (j : Nat) (x : Int32) : z_fr A (sI A w j x) := by
  refine ⟨fun _ _ _ => rfl, fun _ _ _ _ => rfl, rfl, fun _ _ _ => rfl, fun v i e => ?_, fun _ => .inl rfl, fun _ => .inl rfl, fun p => .inl ⟨?_, rfl⟩⟩
  · rw [vI_sI, if_neg (fun g => by have := g.1; omega)]
  · rw [vI_sI, if_neg (fun g => h g.1.symm)]
theorem fr_N (A : w_A) {w : Nat} (h : w = 6 ∨ w = 9 ∨ w = 10 ∨ w = 11 ∨ w = 12 ∨ w = 19) (j x : Nat) : z_fr A (sN A w j x) := by
  refine ⟨fun _ _ _ => rfl, fun _ _ _ _ => rfl, rfl, fun v i e => ?_, fun _ _ _ => rfl, fun _ => .inl ?_, fun _ => .inl ?_, fun p => .inl ⟨rfl, ?_⟩⟩ <;> rw [vN_sN, if_neg (fun g => by have := g.1; omega)]
theorem fr_INL (A : w_A) (j : Nat) : z_fr A (sN A 14 j 0) := by
  refine ⟨fun _ _ _ => rfl, fun _ _ _ _ => rfl, rfl, fun v i e => ?_, fun _ _ _ => rfl, fun c => ?_, fun _ => .inl rfl, fun p => .inl ⟨rfl, rfl⟩⟩
  · rw [vN_sN, if_neg (fun g => by have := g.1; omega)]
  · rw [vN_sN]
    split
    · exact .inr rfl
    · exact .inl rfl
theorem fr_DUE (A : w_A) (j : Nat) {x : Nat} (hx : x = vN A 5 0 + 30) : z_fr A (sN A 8 j x) := by
  refine ⟨fun _ _ _ => rfl, fun _ _ _ _ => rfl, rfl, fun v i e => ?_, fun _ _ _ => rfl, fun c => .inl rfl, fun p => ?_, fun p => .inl ⟨rfl, rfl⟩⟩
  · rw [vN_sN, if_neg (fun g => by have := g.1; omega)]
  · rw [vN_sN]
    split
    · exact .inr hx
    · exact .inl rfl
theorem fr_ST (A : w_A) (j : Nat) (s : Int32) : z_fr A (sN (sI A 0 j s) 7 j (vN A 5 0 + 10)) := by
  refine ⟨fun _ _ _ => rfl, fun _ _ _ _ => rfl, rfl, fun v i e => ?_, fun v i e => ?_, fun c => .inl rfl, fun p => .inl rfl, fun p => ?_⟩
  · rw [vN_sN, if_neg (fun g => by have := g.1; omega)]
    rfl
  · show vI (sI A 0 j s) v i = _
    rw [vI_sI, if_neg (fun g => by have := g.1; omega)]
  · by_cases e : p = j
    · right
      rw [vN_sN, if_pos ⟨rfl, e⟩]
    · left
      refine ⟨?_, ?_⟩
      · show vI (sI A 0 j s) 0 p = _
        rw [vI_sI, if_neg (fun g => e g.2)]
      · rw [vN_sN, if_neg (fun g => e g.2)]
        rfl
theorem fr_L (A : w_A) {w : Nat} (h : w = 3 ∨ w = 12) (j : Nat) (x : List Int32) : z_fr A (sL A w j x) := by
  refine ⟨fun _ _ _ => rfl, fun v i e e2 => ?_, rfl, fun _ _ _ => rfl, fun _ _ _ => rfl, fun _ => .inl rfl, fun _ => .inl rfl, fun p => .inl ⟨rfl, rfl⟩⟩
  rw [vL_sL, if_neg (fun g => by have := g.1; omega)]
theorem fr_J (A : w_A) (j : Nat) (x : Int64) : z_fr A (sJ A 4 j x) := by
  refine ⟨fun v i e => ?_, fun _ _ _ _ => rfl, rfl, fun _ _ _ => rfl, fun _ _ _ => rfl, fun _ => .inl rfl, fun _ => .inl rfl, fun p => .inl ⟨rfl, rfl⟩⟩
  rw [vJ_sJ, if_neg (fun g => e g.1)]
theorem fr_page (A : w_A) (l : List Int32) : z_fr A (fn_page A l) := fr_L A (.inr rfl) 0 l
theorem fr_lost (A : w_A) : z_fr A (fn_lost A) := fr_I A (by decide) (by decide) (by decide) _ _
theorem fr_send (A : w_A) (c : Nat) : z_fr A (fn_send A c) := by
  unfold fn_send
  split
  · exact fr_L A (.inl rfl) _ _
  · exact fr_lost A
theorem fr_hop (A : w_A) : z_fr A (fn_hop A) := fr_N A (.inl rfl) _ _
theorem fr_sI {A B : w_A} (f : z_fr A B) {w : Nat} (h : w ≠ 0) (h1 : w ≠ 11) (h2 : w < 18) (j : Nat) (x : Int32) : z_fr A (sI B w j x) := fr_trans f (fr_I B h h1 h2 j x)
theorem fr_sN {A B : w_A} (f : z_fr A B) {w : Nat} (h : w = 6 ∨ w = 9 ∨ w = 10 ∨ w = 11 ∨ w = 12 ∨ w = 19) (j x : Nat) : z_fr A (sN B w j x) := fr_trans f (fr_N B h j x)
theorem fr_pg {A B : w_A} (f : z_fr A B) (l : List Int32) : z_fr A (fn_page B l) := fr_trans f (fr_page B l)
theorem fr_sd {A B : w_A} (f : z_fr A B) (c : Nat) : z_fr A (fn_send B c) := fr_trans f (fr_send B c)
theorem fr_opening (A : w_A) (p : Nat) : z_fr A (fn_sendOpening A p) := fr_sd (fr_pg (fr_sI (fr_hop A) (by decide) (by decide) (by decide) _ _) _) _
theorem fr_watch (A : w_A) (p : Nat) : z_fr A (fn_sendWatch A p) := fr_sd (fr_pg (fr_sI (fr_sI (fr_hop A) (by decide) (by decide) (by decide) _ _) (by decide) (by decide) (by decide) _ _) _) _
theorem fr_sending (A : w_A) (p : Nat) (x : Int32) : z_fr A (fn_sendEnding A p x) := fr_sd (fr_pg (fr_sI (fr_hop A) (by decide) (by decide) (by decide) _ _) _) _
theorem fr_ansCame (A : w_A) (p : Nat) : z_fr A (fn_answerCame A p) := fr_sd (fr_page A _) _
theorem fr_put (A : w_A) (i b : Nat) : z_fr A (fn_put A i b) := fr_sd (fr_pg (fr_sN (fr_sN (fr_sI (fr_sI (fr_sI (fr_hop A) (by decide) (by decide) (by decide) _ _) (by decide) (by decide) (by decide) _ _) (by decide) (by decide) (by decide) _ _) (by decide) _ _) (by decide) _ _) _) _
theorem fr_gstep (A : w_A) (p i : Nat) : z_fr A (fn_gstep A p i) := by
  unfold fn_gstep
  split
  · split
    · exact fr_put A i _
    · split
      · exact fr_refl A
      · exact fr_J A _ _
  · exact fr_refl A
theorem fr_gloop (p : Nat) : ∀ (r i : Nat) (A : w_A), z_fr A (fn_gloop A p r i)
  | 0, _, A => fr_refl A
  | r + 1, i, A => fr_trans (fr_gstep A p i) (fr_gloop p r (i + 1) _)
theorem fr_giveOver (A : w_A) (p : Nat) : z_fr A (fn_giveOver A p) := fr_trans (fr_I A (by decide) (by decide) (by decide) _ _) (fr_gloop p _ _ _)
theorem fr_comeUp (A : w_A) (p : Nat) : z_fr A (fn_comeUp A p) := by
  unfold fn_comeUp
  split
  · exact fr_sI (fr_DUE A p rfl) (by decide) (by decide) (by decide) _ _
  · exact fr_trans (fr_sI (fr_sI (fr_DUE A p rfl) (by decide) (by decide) (by decide) _ _) (by decide) (by decide) (by decide) _ _) (fr_watch _ p)
theorem fr_leave (A : w_A) (p : Nat) : z_fr A (fn_leave A p) := fr_trans (fr_trans (fr_sI (fr_I A (by decide) (by decide) (by decide) _ _) (by decide) (by decide) (by decide) _ _) (fr_DUE (sI (sI A 1 p 3) 2 p 0) p rfl)) (fr_giveOver _ p)
theorem fr_enter (A : w_A) (p : Nat) (s : Int32) : z_fr A (fn_enter A p s) := by
  unfold fn_enter
  dsimp only
  split
  · split
    · exact fr_ST A p s
    · exact fr_trans (fr_ST A p s) (fr_leave _ p)
  · split
    · exact fr_trans (fr_ST A p s) (fr_comeUp _ p)
    · exact fr_ST A p s
theorem fr_close (A : w_A) (c : Nat) : z_fr A (fn_close A c) := fr_trans (fr_sN (fr_sI (fr_I A (by decide) (by decide) (by decide) _ _) (by decide) (by decide) (by decide) _ _) (by decide) _ _) (fr_INL _ c)
theorem fr_closeOwn (A : w_A) (p : Nat) : z_fr A (fn_closeOwn A p) := by
  unfold fn_closeOwn
  split
  · exact fr_refl A
  · exact fr_sN (fr_close A _) (by decide) _ _
theorem fr_closeCame (A : w_A) (p : Nat) : z_fr A (fn_closeCame A p) := by
  unfold fn_closeCame
  split
  · exact fr_refl A
  · exact fr_sN (fr_close A _) (by decide) _ _
theorem fr_shut (A : w_A) (p : Nat) : z_fr A (fn_shut A p) := fr_trans (fr_trans (fr_closeOwn A p) (fr_closeCame _ p)) (fr_enter _ p 0)
theorem fr_opened (A : w_A) (p : Nat) : z_fr A (fn_opened A p) := fr_trans (fr_ansCame A p) (fr_enter _ p 5)
theorem fr_choose (A : w_A) (p : Nat) : z_fr A (fn_choose A p) := by
  unfold fn_choose
  split
  · exact fr_trans (fr_closeOwn A p) (fr_opened _ p)
  · exact fr_enter A p 4
theorem fr_end (A : w_A) (c : Nat) : z_fr A (fn_end A c) := by
  unfold fn_end
  have h : z_fr A (if vI A 13 c = 1 then fn_closeOwn A (vN A 11 c - 1) else fn_closeCame A (vN A 11 c - 1)) := by
    split
    · exact fr_closeOwn A _
    · exact fr_closeCame A _
  by_cases hz : vN A 11 c = 0
  · rw [if_pos hz]
    exact fr_close A c
  · rw [if_neg hz]
    dsimp only
    revert h
    generalize (if vI A 13 c = 1 then fn_closeOwn A (vN A 11 c - 1) else fn_closeCame A (vN A 11 c - 1)) = B
    intro h
    by_cases h3 : vI A 0 (vN A 11 c - 1) = 3
    · rw [if_pos h3]
      by_cases hr : vI A 13 c = 1
      · rw [if_pos hr]; exact fr_trans h (fr_opened _ _)
      · rw [if_neg hr]; exact fr_trans h (fr_enter _ _ _)
    · rw [if_neg h3]
      by_cases h4 : vI A 0 (vN A 11 c - 1) = 4
      · rw [if_pos h4]
        by_cases hr : vI A 13 c = 1
        · rw [if_pos hr]; exact fr_trans h (fr_opened _ _)
        · rw [if_neg hr]; exact fr_trans h (fr_enter _ _ _)
      · rw [if_neg h4]
        exact fr_trans h (fr_shut _ _)
theorem fr_fresh (A : w_A) (c p : Nat) (s r : Int32) : z_fr A (fn_fresh A c s p r) := fr_trans (fr_trans (fr_sN (fr_sI (fr_I A (by decide) (by decide) (by decide) _ _) (by decide) (by decide) (by decide) _ _) (by decide) _ _) (fr_INL _ c)) (fr_L _ (.inl rfl) _ _)
theorem fr_begin (A : w_A) (p c : Nat) : z_fr A (fn_begin A p c) := fr_trans (fr_sN (fr_fresh A c (p + 1) 1 1) (by decide) _ _) (fr_enter _ p 1)
theorem fr_ring (A : w_A) (p : Nat) : z_fr A (fn_ring A p) := by
  have h : z_fr A (sN A 8 p (vN A 5 0 + 30)) := fr_DUE A p rfl
  unfold fn_ring
  dsimp only
  split
  · split
    · exact fr_trans h (fr_watch _ p)
    · exact fr_trans (fr_sI h (by decide) (by decide) (by decide) _ _) (fr_giveOver _ p)
  · split
    · exact fr_trans h (fr_shut _ p)
    · split
      · split
        · exact fr_trans h (fr_watch _ p)
        · exact fr_trans h (fr_shut _ p)
      · split
        · split
          · exact fr_trans h (fr_begin _ p _)
          · exact h
        · exact h
theorem fr_refuse (A : w_A) (c : Nat) (P : w_P) : z_fr A (fn_refuse A c P) := fr_sd (fr_page A _) _
theorem fr_plain (A : w_A) (c : Nat) (P : w_P) (r : Int32) : z_fr A (fn_plain A c P r) := fr_sd (fr_page A _) _
theorem fr_askAns (A : w_A) (p : Nat) (P : w_P) : z_fr A (fn_askAns A p P) := by
  unfold fn_askAns
  split
  · exact fr_J A _ _
  · exact fr_lost A
theorem fr_asking (A : w_A) (p : Nat) (P : w_P) : z_fr A (fn_asking A p P) := by
  unfold fn_asking
  split
  · exact fr_trans (fr_closeCame A p) (fr_enter _ p 6)
  · exact fr_trans (fr_lost A) (fr_end _ _)
theorem fr_strange (A : w_A) (c : Nat) (P : w_P) : z_fr A (fn_strange A c P) := by
  unfold fn_strange
  split
  · exact fr_trans (fr_refuse A c P) (fr_close _ c)
  · split
    · exact fr_trans (fr_lost A) (fr_close _ c)
    · split
      · exact fr_trans (fr_plain A c P _) (fr_close _ c)
      · rename_i p _
        split
        · exact fr_trans (fr_plain A c P _) (fr_close _ c)
        · split
          · exact fr_trans (fr_plain A c P _) (fr_close _ c)
          · have h : z_fr A (sN (sN (sI (sI (sI (sI A 13 c 2) 8 p (pF P)) 9 p (pH P)) 10 p (pE P)) 11 c (p + 1)) 10 p c) := fr_sN (fr_sN (fr_sI (fr_sI (fr_sI (fr_I A (by decide) (by decide) (by decide) _ _) (by decide) (by decide) (by decide) _ _) (by decide) (by decide) (by decide) _ _) (by decide) (by decide) (by decide) _ _) (by decide) _ _) (by decide) _ _
            dsimp only
            split
            · exact fr_trans h (fr_opened _ p)
            · split
              · exact fr_trans h (fr_enter _ p 3)
              · exact fr_trans h (fr_choose _ p)
theorem fr_ending (A : w_A) (p : Nat) (P : w_P) : z_fr A (fn_ending A p P) := by
  unfold fn_ending
  split
  · exact fr_shut A p
  · exact fr_lost A
