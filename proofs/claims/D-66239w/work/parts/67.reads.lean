/-! PART 67 (src 67.reads.src): what is read behind a change of state -/
set_option maxHeartbeats 400000
theorem giveOver_N (A : w_A) (p : Nat) {v : Nat} (h1 : v ≠ 6) (h2 : v ≠ 12) (h3 : v ≠ 19) (j : Nat) : vN (fn_giveOver A p) v j = vN A v j := by
  unfold fn_giveOver
  rw [gloop_N p h1 h2 h3, vN_sI]
theorem giveOver_I (A : w_A) (p : Nat) {v : Nat} (h : v ≠ 3) (h0 : v ≠ 14) (h1 : v ≠ 15) (h2 : v ≠ 16) (h3 : v ≠ 17) (j : Nat) : vI (fn_giveOver A p) v j = vI A v j := by
  unfold fn_giveOver
  rw [gloop_I p h0 h1 h2 h3, vI_sI, if_neg (fun e => h e.1)]
theorem watch_N (A : w_A) (p : Nat) {v : Nat} (h1 : v ≠ 6) (j : Nat) : vN (fn_sendWatch A p) v j = vN A v j := by
  unfold fn_sendWatch
  rw [vN_send, vN_page, vN_sI, vN_sI, fn_hop, vN_sN, if_neg (fun e => h1 e.1)]
theorem watch_I (A : w_A) (p : Nat) {v : Nat} (h0 : v ≠ 14) (h1 : v ≠ 6) (h2 : v ≠ 2) (j : Nat) : vI (fn_sendWatch A p) v j = vI A v j := by
  unfold fn_sendWatch
  rw [vI_send _ _ h0, vI_page, vI_sI, if_neg (fun e => h2 e.1), vI_sI, if_neg (fun e => h1 e.1)]
  rfl
theorem enter_N (A : w_A) (p : Nat) (s : Int32) {v : Nat} (h1 : v ≠ 6) (h2 : v ≠ 12) (h3 : v ≠ 19) (h4 : v ≠ 7) (h5 : v ≠ 8) (j : Nat) : vN (fn_enter A p s) v j = vN A v j := by
  have e0 : vN (sN (sI A 0 p s) 7 p (vN A 5 0 + 10)) v j = vN A v j := by rw [vN_sN, if_neg (fun e => h4 e.1), vN_sI]
  unfold fn_enter
  dsimp only
  split
  · split
    · exact e0
    · unfold fn_leave
      rw [giveOver_N _ _ h1 h2 h3, vN_sN, if_neg (fun e => h5 e.1), vN_sI, vN_sI, e0]
  · split
    · unfold fn_comeUp
      split
      · rw [vN_sI, vN_sN, if_neg (fun e => h5 e.1), e0]
      · rw [watch_N _ _ h1, vN_sI, vN_sI, vN_sN, if_neg (fun e => h5 e.1), e0]
    · exact e0
theorem enter_I (A : w_A) (p : Nat) (s : Int32) {v : Nat} (h0 : v ≠ 14) (h1 : v ≠ 15) (h2 : v ≠ 16) (h3 : v ≠ 17) (h4 : v ≠ 0) (h5 : v ≠ 1) (h6 : v ≠ 2) (h7 : v ≠ 3) (h8 : v ≠ 4) (h9 : v ≠ 6) (j : Nat) : vI (fn_enter A p s) v j = vI A v j := by
  have e0 : vI (sN (sI A 0 p s) 7 p (vN A 5 0 + 10)) v j = vI A v j := by rw [vI_sN, vI_sI, if_neg (fun e => h4 e.1)]
  unfold fn_enter
  dsimp only
  split
  · split
    · exact e0
    · unfold fn_leave
      rw [giveOver_I _ _ h7 h0 h1 h2 h3, vI_sN, vI_sI, if_neg (fun e => h6 e.1), vI_sI, if_neg (fun e => h5 e.1), e0]
  · split
    · unfold fn_comeUp
      split
      · rw [vI_sI, if_neg (fun e => h5 e.1), vI_sN, e0]
      · rw [watch_I _ _ h0 h9 h6, vI_sI, if_neg (fun e => h8 e.1), vI_sI, if_neg (fun e => h5 e.1), vI_sN, e0]
    · exact e0
theorem enter_ST (A : w_A) (p : Nat) (s : Int32) (q : Nat) : vI (fn_enter A p s) 0 q = if q = p then s else vI A 0 q := by
  have e0 : vI (sN (sI A 0 p s) 7 p (vN A 5 0 + 10)) 0 q = if q = p then s else vI A 0 q := by rw [vI_sN, vI_sI]; simp only [true_and]
  unfold fn_enter
  dsimp only
  split
  · split
    · exact e0
    · unfold fn_leave
      rw [giveOver_I _ _ (by decide) (by decide) (by decide) (by decide) (by decide), vI_sN, vI_sI, if_neg (fun e => absurd e.1 (by decide)), vI_sI, if_neg (fun e => absurd e.1 (by decide)), e0]
  · split
    · unfold fn_comeUp
      split
      · rw [vI_sI, if_neg (fun e => absurd e.1 (by decide)), vI_sN, e0]
      · rw [watch_I _ _ (by decide) (by decide) (by decide), vI_sI, if_neg (fun e => absurd e.1 (by decide)), vI_sI, if_neg (fun e => absurd e.1 (by decide)), vI_sN, e0]
    · exact e0
/-- a watch that runs: of a peer that is up -/
def z_U (A : w_A) : Prop := ∀ p, vI A 1 p = 1 ∨ vI A 1 p = 2 ∨ vI A 1 p = 4 → fn_up A p
theorem enter_STATne (A : w_A) (p : Nat) (s : Int32) {q : Nat} (hq : ¬ q = p) : vI (fn_enter A p s) 1 q = vI A 1 q := by
  have e0 : vI (sN (sI A 0 p s) 7 p (vN A 5 0 + 10)) 1 q = vI A 1 q := rfl
  unfold fn_enter
  dsimp only
  split
  · split
    · exact e0
    · unfold fn_leave
      rw [giveOver_I _ _ (by decide) (by decide) (by decide) (by decide) (by decide), vI_sN, vI_sI, if_neg (fun e => absurd e.1 (by decide)), vI_sI, if_neg (fun e => hq e.2), e0]
  · split
    · unfold fn_comeUp
      split
      · rw [vI_sI, if_neg (fun e => hq e.2), vI_sN, e0]
      · rw [watch_I _ _ (by decide) (by decide) (by decide), vI_sI, if_neg (fun e => absurd e.1 (by decide)), vI_sI, if_neg (fun e => hq e.2), vI_sN, e0]
    · exact e0
theorem enter_U {A : w_A} (h : z_U A) (p : Nat) (s : Int32) : z_U (fn_enter A p s) := by
  intro q hq
  unfold fn_up
  by_cases e : q = p
  · subst e
    rw [enter_ST, if_pos rfl]
    refine Classical.byContradiction fun hs => ?_
    unfold fn_enter at hq
    dsimp only at hq
    by_cases hu : fn_up A q
    · rw [if_pos hu, if_neg hs] at hq
      unfold fn_leave at hq
      rw [giveOver_I _ _ (by decide) (by decide) (by decide) (by decide) (by decide), vI_sN, vI_sI, if_neg (fun e => absurd e.1 (by decide)), vI_sI, if_pos ⟨rfl, rfl⟩] at hq
      rcases hq with h | h | h <;> exact absurd h (by decide)
    · rw [if_neg hu, if_neg hs] at hq
      exact hu (h q hq)
  · rw [enter_STATne _ _ _ e] at hq
    rw [enter_ST, if_neg e]
    exact h q hq
