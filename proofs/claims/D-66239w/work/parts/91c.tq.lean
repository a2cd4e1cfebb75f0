/-! PART 91c (src 91c.tq.src): times inside a second -/
set_option maxHeartbeats 400000
/-- inside a second: the peers before q are done -/
def z_tq (q : Nat) (A : w_A) : Prop := ∀ p, p < vN A 0 0 → (p < q → vN A 5 0 < vN A 8 p ∧ (fn_given A p → vN A 5 0 < vN A 7 p)) ∧ (q ≤ p → vN A 5 0 ≤ vN A 8 p ∧ (fn_given A p → vN A 5 0 ≤ vN A 7 p))
theorem fr_giv {A B : w_A} (f : z_fr A B) {p : Nat} (h : fn_given B p) : fn_given A p ∧ vN B 7 p = vN A 7 p ∨ vN B 7 p = vN A 5 0 + 10 := by
  rcases f.2.2.2.2.2.2.2 p with ⟨e, e2⟩ | e
  · left
    refine ⟨?_, e2⟩
    unfold fn_given fn_up at h ⊢
    rw [e] at h
    exact h
  · exact .inr e
theorem fr_tq {q : Nat} {A B : w_A} (f : z_fr A B) (h : z_tq q A) : z_tq q B := by
  have hn : vN B 5 0 = vN A 5 0 := f.2.2.2.1 _ _ (.inl (by decide))
  have hp : vN B 0 0 = vN A 0 0 := f.2.2.2.1 _ _ (.inl (by decide))
  intro p h1
  rw [hp] at h1
  rw [hn]
  have h := h p h1
  have f7 := f.2.2.2.2.2.2.1 p
  refine ⟨fun g => ?_, fun g => ?_⟩
  · have := h.1 g
    refine ⟨by rcases f7 with e | e <;> rw [e] <;> omega, fun k => ?_⟩
    rcases fr_giv f k with ⟨k1, k2⟩ | k2
    · rw [k2]; exact this.2 k1
    · omega
  · have := h.2 g
    refine ⟨by rcases f7 with e | e <;> rw [e] <;> omega, fun k => ?_⟩
    rcases fr_giv f k with ⟨k1, k2⟩ | k2
    · rw [k2]; exact this.2 k1
    · omega
theorem fr_due {A B : w_A} (f : z_fr A B) {p x : Nat} (h : vN A 8 p = vN A 5 0 + 30) : vN B 8 p = vN A 5 0 + 30 := by
  rcases f.2.2.2.2.2.2.1 p with e | e
  · rw [e, h]
  · exact e
theorem ring_due (A : w_A) (p : Nat) : vN (fn_ring A p) 8 p = vN A 5 0 + 30 := by
  have h : vN (sN A 8 p (vN A 5 0 + 30)) 8 p = vN (sN A 8 p (vN A 5 0 + 30)) 5 0 + 30 := by rw [vN_sN, if_pos ⟨rfl, rfl⟩]; rfl
  have fin : ∀ B, z_fr (sN A 8 p (vN A 5 0 + 30)) B → vN B 8 p = vN A 5 0 + 30 := fun B f => fr_due (x := 0) f h
  unfold fn_ring
  dsimp only
  split
  · split
    · exact fin _ (fr_watch _ p)
    · exact fin _ (fr_trans (fr_I _ (by decide) (by decide) (by decide) _ _) (fr_giveOver _ p))
  split
  · exact fin _ (fr_shut _ p)
  split
  · split
    · exact fin _ (fr_watch _ p)
    · exact fin _ (fr_shut _ p)
  split
  · split
    · exact fin _ (fr_begin _ p _)
    · exact fin _ (fr_refl _)
  · exact fin _ (fr_refl _)
theorem pt_tq {q : Nat} {A : w_A} (h : z_tq q A) (hq : q < vN A 0 0) : z_tq (q + 1) (fn_pt A q).1 := by
  have hf := fr_tq (fr_pt A q) h
  have hfp := fr_pt A q
  have hn : vN (fn_pt A q).1 5 0 = vN A 5 0 := hfp.2.2.2.1 _ _ (.inl (by decide))
  have hp : vN (fn_pt A q).1 0 0 = vN A 0 0 := hfp.2.2.2.1 _ _ (.inl (by decide))
  have key : vN A 5 0 < vN (fn_pt A q).1 8 q ∧ (fn_given (fn_pt A q).1 q → vN A 5 0 < vN (fn_pt A q).1 7 q) := by
    obtain ⟨r, hr⟩ : ∃ r : w_A × Nat, r = (if fn_given A q ∧ vN A 7 q = vN A 5 0 then (fn_shut A q, 1) else (A, 0) : w_A × Nat) := ⟨_, rfl⟩
    have hrf : z_fr A r.1 := by
      rw [hr]
      split
      · exact fr_shut A q
      · exact fr_refl A
    have hrn : vN r.1 5 0 = vN A 5 0 := hrf.2.2.2.1 _ _ (.inl (by decide))
    have hrt := (fr_tq hrf h q (by rw [hrf.2.2.2.1 _ _ (.inl (by decide))]; exact hq)).2 (Nat.le_refl q)
    rw [hrn] at hrt
    have hrl : fn_given r.1 q → vN A 5 0 < vN r.1 7 q := by
      intro g
      have := hrt.2 g
      by_cases e : fn_given A q ∧ vN A 7 q = vN A 5 0
      · rw [if_pos e] at hr
        rw [hr] at g
        have g1 := g.1
        have : vI (fn_shut A q) 0 q = 0 := by
          unfold fn_shut
          rw [enter_ST, if_pos rfl]
        exact absurd this g1
      · rw [if_neg e] at hr
        rw [hr] at g ⊢
        have := ((h q hq).2 (Nat.le_refl q)).2 g
        have ne : ¬ vN A 7 q = vN A 5 0 := fun x => e ⟨g, x⟩
        show vN A 5 0 < vN A 7 q
        omega
    have hpt : fn_pt A q = if vN r.1 8 q = vN r.1 5 0 then (fn_ring r.1 q, r.2 + 1) else r := by
      rw [hrn, hr]
      rfl
    rw [hpt, hrn]
    by_cases e : vN r.1 8 q = vN A 5 0
    · rw [if_pos e]
      show vN A 5 0 < vN (fn_ring r.1 q) 8 q ∧ (fn_given (fn_ring r.1 q) q → vN A 5 0 < vN (fn_ring r.1 q) 7 q)
      rw [ring_due, hrn]
      refine ⟨by omega, fun g => ?_⟩
      rcases fr_giv (fr_ring r.1 q) g with ⟨k1, k2⟩ | k2
      · rw [k2]; exact hrl k1
      · rw [k2, hrn]; omega
    · rw [if_neg e]
      exact ⟨by omega, hrl⟩
  intro p h1
  rw [hn]
  have g := hf p h1
  rw [hn] at g
  refine ⟨fun h2 => ?_, fun h2 => g.2 (by omega)⟩
  by_cases e : p = q
  · subst e
    exact key
  · exact g.1 (by omega)
theorem pts_keep : ∀ (f p n d : Nat) (A : w_A), p + f = vN A 0 0 → z_C n A → z_tbd A → z_tq p A → n + 128 * f < 2147483648 → z_C (n + 128 * f) (fn_pts f p A d).1 ∧ z_tbd (fn_pts f p A d).1 ∧ z_tq (p + f) (fn_pts f p A d).1 ∧ z_fr A (fn_pts f p A d).1
  | 0, p, n, d, A, hf, hC, hb, hq, hn => ⟨hC, hb, hq, fr_refl A⟩
  | f + 1, p, n, d, A, hf, hC, hb, hq, hn => by
    have hp4 := hC.1.1.1.1
    have hfr := fr_pt A p
    have hP2 : vN (fn_pt A p).1 0 0 = vN A 0 0 := hfr.2.2.2.1 _ _ (.inl (by decide))
    have := pts_keep f (p + 1) (n + 128) (d + (fn_pt A p).2) (fn_pt A p).1 (by omega) (C_pt hC (by omega) (by omega) (by omega)) (fr_tb hfr hb) (pt_tq hq (by omega)) (by omega)
    rw [pts_s]
    refine ⟨?_, this.2.1, ?_, fr_trans hfr this.2.2.2⟩
    · rw [show n + 128 * (f + 1) = n + 128 + 128 * f by omega]; exact this.1
    · rw [show p + (f + 1) = p + 1 + f by omega]; exact this.2.2.1
