/-! PART 82 (src 82.read.src): what holds of a message that was gone through -/
set_option maxHeartbeats 400000
/-- attributes one behind the other, each of a size that fits -/
def z_okk (r : Nat → Int32) (c : Nat) : Nat → Nat → Nat → Prop
  | 0, k, e => e ≤ k
  | f + 1, k, e => e ≤ k ∨ (8 ≤ e - k ∧ fn_hs r c k ≤ nl r c k ∧ nl r c k ≤ e - k ∧ (¬ fn_kd r c k = 0 → fn_fits (fn_kd r c k) (nl r c k - 8)) ∧ z_okk r c f (k + (nl r c k + 3) / 4 * 4) e)
theorem ok_mono (r : Nat → Int32) (c : Nat) : ∀ (f k e : Nat), z_okk r c f k e → z_okk r c (f + 1) k e
  | 0, _, _, h => .inl h
  | f + 1, k, e, h => by
    rcases h with h | ⟨h1, h2, h3, h4, h5⟩
    · exact .inl h
    · exact .inr ⟨h1, h2, h3, h4, ok_mono r c f _ e h5⟩
theorem ok_le {r : Nat → Int32} {c f g k e : Nat} (hg : f ≤ g) (h : z_okk r c f k e) : z_okk r c g k e := by
  obtain ⟨d, rfl⟩ := Nat.exists_eq_add_of_le hg
  clear hg
  induction d with
  | zero => exact h
  | succ d ih => exact ok_mono r c (f + d) k e ih
theorem walk_ok (r : Nat → Int32) (c : Nat) : ∀ (f k e d : Nat) (acc : List w_Q), e ≤ k + f → (fn_walk r c f k e d acc).1.1 = 0 → z_okk r c f k e
  | 0, k, e, _, _, h, _ => by
    show e ≤ k
    omega
  | f + 1, k, e, d, acc, he, h => by
    have ih := fun k acc => walk_ok r c f k e d acc
    rw [walk_s] at h
    by_cases h1 : e ≤ k
    · exact .inl h1
    rw [if_neg h1] at h
    by_cases h2 : e - k < 8
    · rw [if_pos h2] at h; exact absurd h (show ¬ (5014 : Int32) = 0 by decide)
    rw [if_neg h2] at h
    by_cases h3 : nl r c k < fn_hs r c k ∨ e - k < nl r c k
    · rw [if_pos h3] at h; exact absurd h (show ¬ (5014 : Int32) = 0 by decide)
    rw [if_neg h3] at h
    have h8 := (hs_ge r c k).1
    by_cases h4 : u8 r c (k + 4) &&& 31 ≠ 0
    · rw [if_pos h4] at h; exact absurd h (show ¬ (3009 : Int32) = 0 by decide)
    rw [if_neg h4] at h
    by_cases h5 : fn_kd r c k = 0
    · rw [if_pos h5] at h
      by_cases h6 : u8 r c (k + 4) &&& 64 ≠ 0
      · rw [if_pos h6] at h; exact absurd h (show ¬ (5001 : Int32) = 0 by decide)
      · rw [if_neg h6] at h
        exact .inr ⟨by omega, by omega, by omega, fun q => absurd h5 q, ih _ _ (by omega) h⟩
    rw [if_neg h5] at h
    by_cases h7 : ¬ fn_fits (fn_kd r c k) (nl r c k - 8) ∨ (fn_kd r c k = 5 ∧ d = 3)
    · rw [if_pos h7] at h; exact absurd h (show ¬ (5014 : Int32) = 0 by decide)
    rw [if_neg h7] at h
    by_cases h9 : fn_kd r c k = 5 ∧ (fn_walk r c f (k + 8) (k + nl r c k) (d + 1) []).1.1 ≠ 0
    · rw [if_pos h9] at h; exact absurd h h9.2
    rw [if_neg h9] at h
    exact .inr ⟨by omega, by omega, by omega, fun _ => Classical.byContradiction fun q => h7 (.inl q), ih _ _ (by omega) h⟩
/-- an own attribute that was seen -/
def z_gq (r : Nat → Int32) (c : Nat) (q : w_Q) : Prop := 28 ≤ q.2.1 ∧ q.2.1 + q.2.2 ≤ 600 ∧ fn_fits (fn_kind q.1) q.2.2 ∧ ¬ fn_kind q.1 = 0 ∧ (fn_kind q.1 = 5 → z_okk r c 601 q.2.1 (q.2.1 + q.2.2))
theorem walk_gq (r : Nat → Int32) (c : Nat) : ∀ (f k e d : Nat) (acc : List w_Q), f ≤ 601 → e ≤ k + f → e ≤ 600 → 20 ≤ k → (∀ q ∈ acc, z_gq r c q) → ∀ q ∈ (fn_walk r c f k e d acc).2, z_gq r c q
  | 0, _, _, _, _, _, _, _, _, h => h
  | f + 1, k, e, d, acc, hf, he, h6, h20, ha => by
    have ih := fun k acc => walk_gq r c f k e d acc
    rw [walk_s]
    by_cases h1 : e ≤ k
    · rw [if_pos h1]; exact ha
    rw [if_neg h1]
    by_cases h2 : e - k < 8
    · rw [if_pos h2]; exact ha
    rw [if_neg h2]
    by_cases h3 : nl r c k < fn_hs r c k ∨ e - k < nl r c k
    · rw [if_pos h3]; exact ha
    rw [if_neg h3]
    have h8 := (hs_ge r c k).1
    by_cases h4 : u8 r c (k + 4) &&& 31 ≠ 0
    · rw [if_pos h4]; exact ha
    rw [if_neg h4]
    by_cases h5 : fn_kd r c k = 0
    · rw [if_pos h5]
      by_cases h7 : u8 r c (k + 4) &&& 64 ≠ 0
      · rw [if_pos h7]; exact ha
      · rw [if_neg h7]
        exact ih _ _ (by omega) (by omega) h6 (by omega) ha
    rw [if_neg h5]
    by_cases h7 : ¬ fn_fits (fn_kd r c k) (nl r c k - 8) ∨ (fn_kd r c k = 5 ∧ d = 3)
    · rw [if_pos h7]; exact ha
    rw [if_neg h7]
    by_cases h9 : fn_kd r c k = 5 ∧ (fn_walk r c f (k + 8) (k + nl r c k) (d + 1) []).1.1 ≠ 0
    · rw [if_pos h9]; exact ha
    rw [if_neg h9]
    refine ih _ _ (by omega) (by omega) h6 (by omega) ?_
    split
    · intro q hq
      rcases List.mem_append.mp hq with hq | hq
      · exact ha q hq
      · rw [List.mem_singleton.mp hq]
        obtain ⟨hs8, hkk⟩ := hs_8 h5
        refine ⟨by show 28 ≤ k + 8; omega, by show k + 8 + (nl r c k - 8) ≤ 600; omega, ?_, ?_, fun h50 => ?_⟩
        · show fn_fits (fn_kind (n4 r c k)) (nl r c k - 8)
          rw [← hkk]
          exact Classical.byContradiction fun q => h7 (.inl q)
        · show ¬ fn_kind (n4 r c k) = 0
          rw [← hkk]; exact h5
        · have h50 : fn_kind (n4 r c k) = 5 := h50
          rw [← hkk] at h50
          have hw : (fn_walk r c f (k + 8) (k + nl r c k) (d + 1) []).1.1 = 0 := Classical.byContradiction fun q => h9 ⟨h50, q⟩
          have := ok_le (show f ≤ 601 by omega) (walk_ok r c f (k + 8) (k + nl r c k) (d + 1) [] (by omega) hw)
          show z_okk r c 601 (k + 8) (k + 8 + (nl r c k - 8))
          rw [show k + 8 + (nl r c k - 8) = k + nl r c k by omega]
          exact this
    · exact ha
/-- P was read -/
def z_rP (r : Nat → Int32) (P : w_P) : Prop := ∃ c n, 1 ≤ c ∧ c ≤ 8 ∧ 20 ≤ n ∧ n ≤ 600 ∧ P = fn_read r c n
theorem lack_0 {l : List w_Q} {b : Bool} {ws : List Int32} (h : (fn_lack l b ws).1 = 0) : fn_lack l b ws = (0, 0) := by
  unfold fn_lack at h ⊢
  cases h1 : (ws.find? fun w => (fn_find l w).isNone) with
  | some w =>
    rw [h1] at h
    exact absurd h (show ¬ (5005 : Int32) = 0 by decide)
  | none =>
    rw [h1] at h
    cases b with
    | false => rfl
    | true =>
      cases h2 : (ws.find? fun w => decide (w ≠ 258 ∧ 1 < fn_many l w)) with
      | some w =>
        dsimp only at h
        rw [if_pos rfl, h2] at h
        exact absurd h (show ¬ (5009 : Int32) = 0 by decide)
      | none => rfl
theorem read_cases (r : Nat → Int32) (c n : Nat) : ∃ w x l, fn_read r c n = (c, n, u8 r c 4, n3 r c 5, n4 r c 8, n4 r c 12, n4 r c 16, w, x, l) ∧ (l = [] ∨ l = (fn_walk r c 601 20 n 0 []).2) ∧ (w = 0 → (l = (fn_walk r c 601 20 n 0 []).2 ∧ (fn_walk r c 601 20 n 0 []).1.1 = 0 ∧ fn_lack l (decide (¬ u8 r c 4 &&& 128 = 0)) (fn_wants (decide (¬ u8 r c 4 &&& 128 = 0)) (n3 r c 5)) = (0, 0)) ∧ (¬ u8 r c 4 &&& 128 = 0 → n3 r c 5 = 257 ∨ n3 r c 5 = 280 ∨ n3 r c 5 = 282 ∨ n3 r c 5 = 272)) := by
  unfold fn_read
  dsimp only
  generalize (if n3 r c 5 = 272 then (4 : Int32) else 0) = ap
  split
  · exact ⟨_, _, _, rfl, .inl rfl, fun h => absurd h (by decide)⟩
  split
  · exact ⟨_, _, _, rfl, .inl rfl, fun h => absurd h (by decide)⟩
  rename_i hreq
  split
  · exact ⟨_, _, _, rfl, .inl rfl, fun h => absurd h (by decide)⟩
  split
  · exact ⟨_, _, _, rfl, .inl rfl, fun h => absurd h (by decide)⟩
  split
  · rename_i hw
    exact ⟨_, _, _, rfl, .inr rfl, fun h => absurd h hw⟩
  · rename_i hw
    refine ⟨_, _, _, rfl, .inr rfl, fun h => ⟨⟨rfl, Classical.not_not.mp hw, ?_⟩, fun g => Classical.byContradiction fun q => hreq ⟨g, q⟩⟩⟩
    have h : (fn_lack (fn_walk r c 601 20 n 0 []).2 (decide (¬ u8 r c 4 &&& 128 = 0)) (fn_wants (decide (¬ u8 r c 4 &&& 128 = 0)) (n3 r c 5))).1 = 0 := h
    exact lack_0 h
theorem rP_C {r : Nat → Int32} {P : w_P} (h : z_rP r P) : 1 ≤ pC P ∧ pC P ≤ 8 := by
  obtain ⟨c, n, h1, h2, h3, h4, rfl⟩ := h
  obtain ⟨w, x, l, e, -⟩ := read_cases r c n
  rw [e]
  exact ⟨h1, h2⟩
theorem rP_len {r : Nat → Int32} {P : w_P} (h : z_rP r P) : (pN P).length ≤ 72 := by
  obtain ⟨c, n, h1, h2, h3, h4, rfl⟩ := h
  obtain ⟨w, x, l, e, hl, -⟩ := read_cases r c n
  rw [e]
  show l.length ≤ 72
  rcases hl with rfl | rfl
  · exact Nat.zero_le _
  · exact rx_len h4
theorem rP_gq {r : Nat → Int32} {P : w_P} (h : z_rP r P) : ∀ q ∈ pN P, z_gq r (pC P) q := by
  obtain ⟨c, n, h1, h2, h3, h4, rfl⟩ := h
  obtain ⟨w, x, l, e, hl, -⟩ := read_cases r c n
  rw [e]
  show ∀ q ∈ l, z_gq r c q
  rcases hl with rfl | rfl
  · intro q hq; cases hq
  · exact walk_gq r c 601 20 n 0 [] (Nat.le_refl _) (by omega) h4 (by decide) (fun q hq => by cases hq)
theorem find_some {l : List w_Q} {code : Int32} {q : w_Q} (h : fn_find l code = some q) : q ∈ l ∧ q.1 = code := by
  unfold fn_find at h
  exact ⟨List.mem_of_find?_eq_some h, by simpa using List.find?_some h⟩
theorem rP_find {r : Nat → Int32} {P : w_P} (h : z_rP r P) {code : Int32} {q : w_Q} (hf : fn_find (pN P) code = some q) : z_gq r (pC P) q ∧ q.1 = code := ⟨rP_gq h q (find_some hf).1, (find_some hf).2⟩
theorem rP_num {r : Nat → Int32} {P : w_P} (h : z_rP r P) {code : Int32} (hk : fn_kind code = 2) : ∀ q, fn_find (pN P) code = some q → q.2.1 + 4 ≤ 600 := by
  intro q hf
  obtain ⟨⟨g1, g2, g3, -⟩, e⟩ := rP_find h hf
  rw [e, hk] at g3
  have := g3.2.1 rfl
  omega
theorem rP_txt {r : Nat → Int32} {P : w_P} (h : z_rP r P) {code : Int32} (hk : fn_kind code = 1) : ∀ q, fn_find (pN P) code = some q → q.2.1 + q.2.2 ≤ 600 ∧ 1 ≤ q.2.2 ∧ q.2.2 ≤ 40 := by
  intro q hf
  obtain ⟨⟨g1, g2, g3, -⟩, e⟩ := rP_find h hf
  rw [e, hk] at g3
  exact ⟨g2, g3.1 rfl⟩
theorem rP_grp {r : Nat → Int32} {P : w_P} (h : z_rP r P) {code : Int32} (hk : fn_kind code = 5) : ∀ q, fn_find (pN P) code = some q → 28 ≤ q.2.1 ∧ q.2.1 + q.2.2 ≤ 600 ∧ z_okk r (pC P) 601 q.2.1 (q.2.1 + q.2.2) := by
  intro q hf
  obtain ⟨⟨g1, g2, g3, g4, g5⟩, e⟩ := rP_find h hf
  rw [e] at g5
  exact ⟨g1, g2, g5 hk⟩
theorem rP_req {r : Nat → Int32} {P : w_P} (h : z_rP r P) (hw : pW P = 0) (hr : fn_req P) : pM P = 257 ∨ pM P = 280 ∨ pM P = 282 ∨ pM P = 272 := by
  obtain ⟨c, n, h1, h2, h3, h4, rfl⟩ := h
  obtain ⟨w, x, l, e, hl, hh⟩ := read_cases r c n
  rw [e] at hw hr ⊢
  exact (hh hw).2 hr
theorem lack_has {l : List w_Q} {b : Bool} {ws : List Int32} (h : fn_lack l b ws = (0, 0)) : ∀ w ∈ ws, (fn_find l w).isSome = true := by
  unfold fn_lack at h
  split at h
  · injection h with h1 h2
    exact absurd h1 (by decide)
  · rename_i hn
    intro w hw
    have := List.find?_eq_none.mp hn w hw
    cases hf : fn_find l w with
    | none => rw [hf] at this; exact absurd rfl this
    | some _ => rfl
theorem rP_has {r : Nat → Int32} {P : w_P} (h : z_rP r P) (hw : pW P = 0) : ∀ w ∈ fn_wants (decide (fn_req P)) (pM P), (fn_find (pN P) w).isSome = true := by
  obtain ⟨c, n, h1, h2, h3, h4, rfl⟩ := h
  obtain ⟨w, x, l, e, hl, hh⟩ := read_cases r c n
  rw [e] at hw ⊢
  exact lack_has (hh hw).1.2.2
/-- its host is there -/
theorem rP_host {r : Nat → Int32} {P : w_P} (h : z_rP r P) (hw : pW P = 0) : (fn_find (pN P) 264).isSome = true ∧ (fn_find (pN P) 296).isSome = true := by
  have hh := rP_has h hw
  have hm : (264 : Int32) ∈ fn_wants (decide (fn_req P)) (pM P) ∧ (296 : Int32) ∈ fn_wants (decide (fn_req P)) (pM P) := by
    unfold fn_wants
    by_cases hr : fn_req P
    · rw [if_pos (decide_eq_true hr)]
      split
      · exact ⟨by decide, by decide⟩
      split
      · exact ⟨by decide, by decide⟩
      split
      · exact ⟨by decide, by decide⟩
      · exact ⟨by decide, by decide⟩
    · rw [if_neg (by rw [decide_eq_false hr]; decide)]
      exact ⟨by decide, by decide⟩
  exact ⟨hh _ hm.1, hh _ hm.2⟩
/-- a credit's session, type, count are there -/
theorem rP_cred {r : Nat → Int32} {P : w_P} (h : z_rP r P) (hw : pW P = 0) (hr : fn_req P) (hm : pM P = 272) : (fn_find (pN P) 263).isSome = true ∧ (fn_find (pN P) 416).isSome = true ∧ (fn_find (pN P) 415).isSome = true := by
  have hh := rP_has h hw
  rw [hm, decide_eq_true hr] at hh
  exact ⟨hh _ (by decide), hh _ (by decide), hh _ (by decide)⟩
/-- an answer's result is there -/
theorem rP_res {r : Nat → Int32} {P : w_P} (h : z_rP r P) (hw : pW P = 0) (hr : ¬ fn_req P) : (fn_find (pN P) 268).isSome = true := by
  have hh := rP_has h hw
  rw [decide_eq_false hr] at hh
  exact hh _ (show (268 : Int32) ∈ [268, 264, 296] from by decide)
theorem walk_w (r : Nat → Int32) (c : Nat) : ∀ (f k e d : Nat) (acc : List w_Q), (fn_walk r c f k e d acc).1.1 = 0 ∨ 0 < (fn_walk r c f k e d acc).1.1
  | 0, _, _, _, _ => .inl rfl
  | f + 1, k, e, d, acc => by
    rw [walk_s]
    split
    · exact .inl rfl
    split
    · exact .inr (show (0 : Int32) < 5014 by decide)
    split
    · exact .inr (show (0 : Int32) < 5014 by decide)
    split
    · exact .inr (show (0 : Int32) < 3009 by decide)
    split
    · split
      · exact .inr (show (0 : Int32) < 5001 by decide)
      · exact walk_w r c f _ e d acc
    split
    · exact .inr (show (0 : Int32) < 5014 by decide)
    split
    · exact walk_w r c f _ _ _ _
    · exact walk_w r c f _ e d _
theorem rP_pos {r : Nat → Int32} {P : w_P} (h : z_rP r P) (hw : ¬ pW P = 0) : 0 < pW P := by
  obtain ⟨c, n, h1, h2, h3, h4, rfl⟩ := h
  unfold fn_read at hw ⊢
  dsimp only at hw ⊢
  generalize (if n3 r c 5 = 272 then (4 : Int32) else 0) = ap at hw ⊢
  split
  · exact (show (0 : Int32) < 5011 by decide)
  split
  · exact (show (0 : Int32) < 3001 by decide)
  split
  · exact (show (0 : Int32) < 3007 by decide)
  split
  · exact (show (0 : Int32) < 3008 by decide)
  rename_i a1 a2 a3 a4
  rw [if_neg a1, if_neg a2, if_neg a3, if_neg a4] at hw
  split
  · rename_i q
    exact (walk_w r c 601 20 n 0 []).resolve_left q
  · rename_i q
    rw [if_neg q] at hw
    have hw : ¬ (fn_lack (fn_walk r c 601 20 n 0 []).2 (decide (u8 r c 4 &&& 128 ≠ 0)) (fn_wants (decide (u8 r c 4 &&& 128 ≠ 0)) (n3 r c 5))).1 = 0 := hw
    show 0 < (fn_lack (fn_walk r c 601 20 n 0 []).2 (decide (u8 r c 4 &&& 128 ≠ 0)) (fn_wants (decide (u8 r c 4 &&& 128 ≠ 0)) (n3 r c 5))).1
    unfold fn_lack at hw ⊢
    split
    · exact (show (0 : Int32) < 5005 by decide)
    · rename_i g1
      rw [g1] at hw
      dsimp only at hw
      split
      · rename_i g2
        rw [if_pos g2] at hw
        split
        · exact (show (0 : Int32) < 5009 by decide)
        · rename_i g3
          rw [g3] at hw
          exact absurd rfl hw
      · rename_i g2
        rw [if_neg g2] at hw
        exact absurd rfl hw
theorem text_nm {r : Nat → Int32} (hb : ∀ k, nb (r k) = r k) {c k n : Nat} (hn : n ≤ 40) : z_nm (fn_text r c k n) := by
  unfold fn_text
  refine ⟨by rw [List.length_map, List.length_range]; exact hn, fun x hx => ?_⟩
  obtain ⟨j, -, rfl⟩ := List.mem_map.mp hx
  exact hb _
theorem text_len (r : Nat → Int32) (c k n : Nat) : (fn_text r c k n).length = n := by
  unfold fn_text
  rw [List.length_map, List.length_range]
theorem rP_taken {r : Nat → Int32} {P : w_P} (hb : ∀ k, nb (r k) = r k) (h : z_rP r P) {code : Int32} (hk : fn_kind code = 1) : z_nm (fn_taken r P code) := by
  unfold fn_taken
  split
  · rename_i q hf
    exact text_nm hb (rP_txt h hk q hf).2.2
  · exact ⟨Nat.zero_le _, z_by_nil⟩
theorem text_get {r : Nat → Int32} {c k n j : Nat} (h : j < (fn_text r c k n).length) : (fn_text r c k n)[j] = r (600 * c + (k + j)) := by
  simp [fn_text]
