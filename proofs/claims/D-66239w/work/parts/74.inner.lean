/-! PART 74 (src 74.inner.src): peers' states, watches, questions: what always holds of them -/
set_option maxHeartbeats 400000
theorem io_pos4 {j : Nat} (h : j < 2147483648) : 0 ≤ Int32.ofNat j := by
  rw [show (0 : Int32) = Int32.ofNat 0 from rfl, io_le (by decide) h]
  omega
def z_U2 (A : w_A) : Prop := ∀ p, (vI A 1 p = 1 ∨ vI A 1 p = 2 ∨ vI A 1 p = 4) ↔ fn_up A p
def z_aw (A : w_A) : Prop := ∀ p, ¬ vI A 2 p = 0 → ¬ vI A 6 p = 0
def z_eh (A : w_A) : Prop := ∀ p, 0 ≤ vI A 7 p
def z_o1 (A : w_A) (p : Nat) : Prop := vI A 0 p = 2 ∨ vI A 0 p = 4 → ¬ vI A 5 p = 0
def z_q1 (A : w_A) (p : Nat) : Prop := ∀ i, vJ A 4 i = 0 → vN A 12 i = p + 1 → fn_up A p ∧ vN A 19 i = fn_conn A p
def z_pp (A : w_A) : Prop := z_U2 A ∧ z_aw A ∧ z_eh A ∧ ∀ p, z_o1 A p ∧ z_q1 A p
/-- with a hole at peer p -/
def z_ph (A : w_A) (p : Nat) : Prop := z_U2 A ∧ z_aw A ∧ z_eh A ∧ (∀ q, ¬ q = p → z_o1 A q ∧ z_q1 A q) ∧ ∀ i, vJ A 4 i = 0 → vN A 12 i = p + 1 → fn_up A p
theorem pp_ph {A : w_A} (h : z_pp A) (p : Nat) : z_ph A p := ⟨h.1, h.2.1, h.2.2.1, fun q _ => h.2.2.2 q, fun i h1 h2 => ((h.2.2.2 p).2 i h1 h2).1⟩
/-- what this depends on -/
def z_sv (A B : w_A) : Prop := (∀ p, vI B 0 p = vI A 0 p) ∧ (∀ p, vI B 1 p = vI A 1 p) ∧ (∀ p, vI B 2 p = vI A 2 p) ∧ (∀ p, vI B 6 p = vI A 6 p) ∧ (∀ p, vI B 7 p = vI A 7 p) ∧ (∀ p, vI B 5 p = vI A 5 p) ∧ (∀ i, vJ B 4 i = vJ A 4 i) ∧ (∀ i, vN B 12 i = vN A 12 i) ∧ (∀ i, vN B 19 i = vN A 19 i)
theorem up_cong {A B : w_A} {p : Nat} (h : vI B 0 p = vI A 0 p) : fn_up B p ↔ fn_up A p := by
  unfold fn_up
  rw [h]
theorem conn_cong {A B : w_A} {p : Nat} (h : vI B 0 p = vI A 0 p) (g : vN B 9 p = vN A 9 p) (k : vN B 10 p = vN A 10 p) : fn_conn B p = fn_conn A p := by
  unfold fn_conn
  rw [h, g, k]
theorem q1_cong {A B : w_A} {p : Nat} (h : vI B 0 p = vI A 0 p) (hr : ∀ i, vJ B 4 i = vJ A 4 i) (hp : ∀ i, vN B 12 i = vN A 12 i) (hc : ∀ i, vN B 19 i = vN A 19 i) (g : vN B 9 p = vN A 9 p) (k : vN B 10 p = vN A 10 p) (x : z_q1 A p) : z_q1 B p := by
  intro i h1 h2
  rw [hr] at h1
  rw [hp] at h2
  rw [up_cong h, hc, conn_cong h g k]
  exact x i h1 h2
theorem sv_U2 {A B : w_A} (s : z_sv A B) (h : z_U2 A) : z_U2 B := fun p => by rw [s.2.1, up_cong (s.1 p)]; exact h p
theorem sv_aw {A B : w_A} (s : z_sv A B) (h : z_aw A) : z_aw B := fun p => by rw [s.2.2.1, s.2.2.2.1]; exact h p
theorem sv_eh {A B : w_A} (s : z_sv A B) (h : z_eh A) : z_eh B := fun p => by rw [s.2.2.2.2.1]; exact h p
theorem sv_o1 {A B : w_A} (s : z_sv A B) {p : Nat} (h : z_o1 A p) : z_o1 B p := by
  unfold z_o1 at h ⊢
  rw [s.1, s.2.2.2.2.2.1]
  exact h
theorem ph_cong {A B : w_A} {p : Nat} (s : z_sv A B) (ho : ∀ q, ¬ q = p → vN B 9 q = vN A 9 q ∧ vN B 10 q = vN A 10 q) (h : z_ph A p) : z_ph B p := by
  obtain ⟨h1, h2, h3, h4, h5⟩ := h
  have s' := s
  obtain ⟨s1, -, -, -, -, -, s7, s8, s9⟩ := s'
  refine ⟨sv_U2 s h1, sv_aw s h2, sv_eh s h3, fun q hq => ⟨sv_o1 s (h4 q hq).1, q1_cong (s1 q) s7 s8 s9 (ho q hq).1 (ho q hq).2 (h4 q hq).2⟩, fun i g1 g2 => ?_⟩
  rw [s7] at g1
  rw [s8] at g2
  rw [up_cong (s1 p)]
  exact h5 i g1 g2
theorem pp_cong {A B : w_A} (s : z_sv A B) (ho : ∀ q, vN B 9 q = vN A 9 q ∧ vN B 10 q = vN A 10 q) (h : z_pp A) : z_pp B := by
  obtain ⟨h1, h2, h3, h4⟩ := h
  have s' := s
  obtain ⟨s1, -, -, -, -, -, s7, s8, s9⟩ := s'
  exact ⟨sv_U2 s h1, sv_aw s h2, sv_eh s h3, fun q => ⟨sv_o1 s (h4 q).1, q1_cong (s1 q) s7 s8 s9 (ho q).1 (ho q).2 (h4 q).2⟩⟩
theorem sv_refl (A : w_A) : z_sv A A := ⟨fun _ => rfl, fun _ => rfl, fun _ => rfl, fun _ => rfl, fun _ => rfl, fun _ => rfl, fun _ => rfl, fun _ => rfl, fun _ => rfl⟩
theorem sv_send (A : w_A) (c : Nat) : z_sv A (fn_send A c) := ⟨fun _ => vI_send _ _ (by decide) _, fun _ => vI_send _ _ (by decide) _, fun _ => vI_send _ _ (by decide) _, fun _ => vI_send _ _ (by decide) _, fun _ => vI_send _ _ (by decide) _, fun _ => vI_send _ _ (by decide) _, fun _ => vJ_send .., fun _ => vN_send .., fun _ => vN_send ..⟩
theorem pp_send {A : w_A} (h : z_pp A) (c : Nat) : z_pp (fn_send A c) := pp_cong (sv_send A c) (fun _ => ⟨vN_send .., vN_send ..⟩) h
theorem ph_send {A : w_A} {p : Nat} (h : z_ph A p) (c : Nat) : z_ph (fn_send A c) p := ph_cong (sv_send A c) (fun _ _ => ⟨vN_send .., vN_send ..⟩) h
theorem pp_page {A : w_A} (h : z_pp A) (l : List Int32) : z_pp (fn_page A l) := h
theorem ph_page {A : w_A} {p : Nat} (h : z_ph A p) (l : List Int32) : z_ph (fn_page A l) p := h
theorem pp_lost {A : w_A} (h : z_pp A) : z_pp (fn_lost A) := h
theorem ph_lost {A : w_A} {p : Nat} (h : z_ph A p) : z_ph (fn_lost A) p := h
theorem sv_close (A : w_A) (c : Nat) : z_sv A (fn_close A c) := ⟨fun _ => rfl, fun _ => rfl, fun _ => rfl, fun _ => rfl, fun _ => rfl, fun _ => rfl, fun _ => rfl, fun _ => rfl, fun _ => rfl⟩
theorem pp_close {A : w_A} (h : z_pp A) (c : Nat) : z_pp (fn_close A c) := h
theorem ph_closeOwn {A : w_A} {p : Nat} (h : z_ph A p) : z_ph (fn_closeOwn A p) p := by
  unfold fn_closeOwn
  split
  · exact h
  · refine ph_cong (A := A) ⟨fun _ => rfl, fun _ => rfl, fun _ => rfl, fun _ => rfl, fun _ => rfl, fun _ => rfl, fun _ => rfl, fun _ => rfl, fun _ => rfl⟩ (fun q hq => ⟨?_, rfl⟩) h
    rw [vN_sN, if_neg (fun g => hq g.2)]
    rfl
theorem ph_closeCame {A : w_A} {p : Nat} (h : z_ph A p) : z_ph (fn_closeCame A p) p := by
  unfold fn_closeCame
  split
  · exact h
  · refine ph_cong (A := A) ⟨fun _ => rfl, fun _ => rfl, fun _ => rfl, fun _ => rfl, fun _ => rfl, fun _ => rfl, fun _ => rfl, fun _ => rfl, fun _ => rfl⟩ (fun q hq => ⟨rfl, ?_⟩) h
    rw [vN_sN, if_neg (fun g => hq g.2)]
    rfl
theorem ph_ansCame {A : w_A} {p : Nat} (h : z_ph A p) (q : Nat) : z_ph (fn_answerCame A q) p := ph_send (ph_page h _) _
/-! questions given over -/
theorem put_QPEER (A : w_A) (i b j : Nat) : vN (fn_put A i b) 12 j = if j = i then b + 1 else vN A 12 j := by
  obtain ⟨l, e⟩ := put_eq A i b
  rw [e, vN_send, vN_page, fn_putA, vN_sN, if_neg (fun e => absurd e.1 (by decide)), vN_sN]
  by_cases h : j = i
  · rw [if_pos ⟨rfl, h⟩, if_pos h]
  · rw [if_neg (fun e => h e.2), if_neg h]
    rfl
theorem put_QCONN (A : w_A) (i b j : Nat) : vN (fn_put A i b) 19 j = if j = i then fn_conn A b else vN A 19 j := by
  obtain ⟨l, e⟩ := put_eq A i b
  rw [e, vN_send, vN_page, fn_putA, vN_sN]
  by_cases h : j = i
  · rw [if_pos ⟨rfl, h⟩, if_pos h]
  · rw [if_neg (fun e => h e.2), if_neg h]
    rfl
theorem put_up (A : w_A) (i b p : Nat) : (fn_up (fn_put A i b) p ↔ fn_up A p) ∧ fn_conn (fn_put A i b) p = fn_conn A p := by
  have e1 := put_I A i b (v := 0) (by decide) (by decide) (by decide) (by decide) p
  exact ⟨up_cong e1, conn_cong e1 (put_N A i b (by decide) (by decide) (by decide) p) (put_N A i b (by decide) (by decide) (by decide) p)⟩
theorem put_q1 {A : w_A} {i b : Nat} (hb : fn_up A b) {p : Nat} (h : z_q1 A p) : z_q1 (fn_put A i b) p := by
  intro j g1 g2
  rw [put_J] at g1
  rw [put_QPEER] at g2
  rw [(put_up A i b p).1, (put_up A i b p).2, put_QCONN]
  by_cases e : j = i
  · rw [if_pos e] at g2 ⊢
    have : b = p := by omega
    subst this
    exact ⟨hb, rfl⟩
  · rw [if_neg e] at g2 ⊢
    exact h j g1 g2
theorem res_q1 {A : w_A} {i : Nat} {x : Int64} (hx : ¬ x = 0) {p : Nat} (h : z_q1 A p) : z_q1 (sJ A 4 i x) p := by
  intro j g1 g2
  rw [vJ_sJ] at g1
  by_cases e : j = i
  · rw [if_pos ⟨rfl, e⟩] at g1
    exact absurd g1 hx
  · rw [if_neg (fun g => e g.2)] at g1
    exact h j g1 g2
theorem gstep_q1 {A : w_A} {p i q : Nat} (h : z_q1 A q) : z_q1 (fn_gstep A p i) q := by
  unfold fn_gstep
  split
  · split
    · rename_i b hb
      exact put_q1 (fn_usable_some hb).2.1 h
    · split
      · exact h
      · exact res_q1 (by decide) h
  · exact h
theorem gloop_q1 (p : Nat) {q : Nat} : ∀ (r i : Nat) (A : w_A), z_q1 A q → z_q1 (fn_gloop A p r i) q
  | 0, _, _, h => h
  | r + 1, i, A, h => gloop_q1 p r (i + 1) _ (gstep_q1 h)
/-- of a peer that is down nothing is left -/
theorem gstep_no {A : w_A} {p i : Nat} (hu : ¬ fn_up A p) (h2 : ¬ vI A 1 p = 2) (h : ∀ j, vJ A 4 j = 0 → vN A 12 j = p + 1 → i ≤ j) : ∀ j, vJ (fn_gstep A p i) 4 j = 0 → vN (fn_gstep A p i) 12 j = p + 1 → i + 1 ≤ j := by
  unfold fn_gstep
  split
  · split
    · rename_i b hb
      have hb := (fn_usable_some hb).2.1
      intro j g1 g2
      rw [put_J] at g1
      rw [put_QPEER] at g2
      by_cases e : j = i
      · rw [if_pos e] at g2
        have : b = p := by omega
        subst this
        exact absurd hb hu
      · rw [if_neg e] at g2
        have := h j g1 g2
        omega
    · intro j g1 g2
      rw [vJ_sJ] at g1
      by_cases e : j = i
      · rw [if_pos ⟨rfl, e⟩] at g1
        exact absurd g1 (by decide)
      · rw [if_neg (fun g => e g.2)] at g1
        have := h j g1 g2
        omega
  · rename_i hn
    intro j g1 g2
    have := h j g1 g2
    by_cases e : j = i
    · subst e
      exact absurd ⟨g2, g1⟩ hn
    · omega
theorem gloop_no (p : Nat) : ∀ (r i : Nat) (A : w_A), ¬ fn_up A p → ¬ vI A 1 p = 2 → (∀ j, vJ A 4 j = 0 → vN A 12 j = p + 1 → i ≤ j) → ∀ j, vJ (fn_gloop A p r i) 4 j = 0 → vN (fn_gloop A p r i) 12 j = p + 1 → i + r ≤ j
  | 0, _, _, _, _, h => h
  | r + 1, i, A, hu, h2, h => by
    have e1 := gstep_I A p i (v := 0) (by decide) (by decide) (by decide) (by decide) p
    have e2 := gstep_I A p i (v := 1) (by decide) (by decide) (by decide) (by decide) p
    have := gloop_no p r (i + 1) (fn_gstep A p i) (fun q => hu ((up_cong e1).mp q)) (by rw [e2]; exact h2) (gstep_no hu h2 h)
    intro j g1 g2
    have := this j g1 g2
    omega
theorem giveOver_q1 {A : w_A} {p q : Nat} (h : z_q1 A q) : z_q1 (fn_giveOver A p) q := gloop_q1 p _ _ _ (show z_q1 (sI A 3 p _) q from h)
theorem giveOver_sv (A : w_A) (p : Nat) : (∀ v q, v ≤ 7 → v ≠ 3 → vI (fn_giveOver A p) v q = vI A v q) ∧ (∀ q, vN (fn_giveOver A p) 9 q = vN A 9 q ∧ vN (fn_giveOver A p) 10 q = vN A 10 q) :=
  ⟨fun v q h1 h2 => giveOver_I A p h2 (by omega) (by omega) (by omega) (by omega) q, fun q => ⟨giveOver_N A p (by decide) (by decide) (by decide) q, giveOver_N A p (by decide) (by decide) (by decide) q⟩⟩
/-- a peer that is up gives its questions over -/
theorem pp_giveOver {A : w_A} (h : z_pp A) (p : Nat) : z_pp (fn_giveOver A p) := by
  obtain ⟨h1, h2, h3, h4⟩ := h
  obtain ⟨e, -⟩ := giveOver_sv A p
  refine ⟨fun q => ?_, fun q => ?_, fun q => ?_, fun q => ⟨?_, giveOver_q1 (h4 q).2⟩⟩
  · rw [e _ q (by decide) (by decide), up_cong (e _ q (by decide) (by decide))]; exact h1 q
  · rw [e _ q (by decide) (by decide), e _ q (by decide) (by decide)]; exact h2 q
  · rw [e _ q (by decide) (by decide)]; exact h3 q
  · unfold z_o1
    rw [e _ q (by decide) (by decide), e _ q (by decide) (by decide)]; exact (h4 q).1
theorem watch_aw {A : w_A} (h : z_aw A) (hn : ¬ fn_nh A = 0) (p : Nat) : z_aw (fn_sendWatch A p) := by
  intro q
  unfold fn_sendWatch
  rw [vI_send _ _ (by decide), vI_send _ _ (by decide), vI_page, vI_page]
  simp only [ev_rd, ev_st, aEl, z_w, z_cat, Nat.reduceMod, Nat.reduceDiv, Nat.reduceLeDiff, Nat.reduceLT, Nat.reduceAdd, Nat.reduceMul, Nat.reduceSub, Nat.reduceEqDiff, Int32.reduceLT, Int32.reduceLE, Int32.reduceAdd, Int32.reduceSub, Int32.reduceMul, true_and, and_true, false_and, and_false, true_or, or_true, false_or, or_false, not_true_eq_false, not_false_eq_true, if_true, if_false, reduceIte, ne_eq, and_self, or_self, reduceCtorEq, Option.some.injEq, Prod.mk.injEq, vI_sI]
  by_cases e : q = p
  · subst e
    simp only [ev_rd, ev_st, aEl, z_w, z_cat, Nat.reduceMod, Nat.reduceDiv, Nat.reduceLeDiff, Nat.reduceLT, Nat.reduceAdd, Nat.reduceMul, Nat.reduceSub, Nat.reduceEqDiff, Int32.reduceLT, Int32.reduceLE, Int32.reduceAdd, Int32.reduceSub, Int32.reduceMul, true_and, and_true, false_and, and_false, true_or, or_true, false_or, or_false, not_true_eq_false, not_false_eq_true, if_true, if_false, reduceIte, ne_eq, and_self, or_self, reduceCtorEq, Option.some.injEq, Prod.mk.injEq]
    exact fun _ => hn
  · simp only [e, ev_rd, ev_st, aEl, z_w, z_cat, Nat.reduceMod, Nat.reduceDiv, Nat.reduceLeDiff, Nat.reduceLT, Nat.reduceAdd, Nat.reduceMul, Nat.reduceSub, Nat.reduceEqDiff, Int32.reduceLT, Int32.reduceLE, Int32.reduceAdd, Int32.reduceSub, Int32.reduceMul, true_and, and_true, false_and, and_false, true_or, or_true, false_or, or_false, not_true_eq_false, not_false_eq_true, if_true, if_false, reduceIte, ne_eq, and_self, or_self, reduceCtorEq, Option.some.injEq, Prod.mk.injEq]
    exact h q
theorem watch_q1 {A : w_A} {p q : Nat} (h : z_q1 A q) : z_q1 (fn_sendWatch A p) q :=
  q1_cong (watch_I A p (by decide) (by decide) (by decide) q) (fun i => by unfold fn_sendWatch; rw [vJ_send]; rfl) (fun i => watch_N A p (by decide) i) (fun i => watch_N A p (by decide) i) (watch_N A p (by decide) q) (watch_N A p (by decide) q) h
theorem pp_watch {A : w_A} (h : z_pp A) (hn : ¬ fn_nh A = 0) (p : Nat) : z_pp (fn_sendWatch A p) := by
  obtain ⟨h1, h2, h3, h4⟩ := h
  have e : ∀ {v : Nat}, v ≠ 14 → v ≠ 6 → v ≠ 2 → ∀ q, vI (fn_sendWatch A p) v q = vI A v q := fun a b c q => watch_I A p a b c q
  refine ⟨fun q => ?_, watch_aw h2 hn p, fun q => ?_, fun q => ⟨?_, watch_q1 (h4 q).2⟩⟩
  · rw [e (by decide) (by decide) (by decide), up_cong (e (by decide) (by decide) (by decide) q)]; exact h1 q
  · rw [e (by decide) (by decide) (by decide)]; exact h3 q
  · unfold z_o1
    rw [e (by decide) (by decide) (by decide), e (by decide) (by decide) (by decide)]; exact (h4 q).1
theorem pp_opening {A : w_A} (h : z_pp A) (hn : ¬ fn_nh A = 0) (p : Nat) : z_pp (fn_sendOpening A p) ∧ ¬ vI (fn_sendOpening A p) 5 p = 0 := by
  have ho : vI (sI (fn_hop A) 5 p (fn_nh A)) 5 p = fn_nh A := by rw [vI_sI, if_pos ⟨rfl, rfl⟩]
  refine ⟨pp_send (pp_page ?_ _) _, ?_⟩
  · obtain ⟨h1, h2, h3, h4⟩ := h
    refine ⟨h1, h2, h3, fun q => ⟨fun hq => ?_, (h4 q).2⟩⟩
    rw [vI_sI]
    by_cases e : q = p
    · rw [if_pos ⟨rfl, e⟩]; exact hn
    · rw [if_neg (fun g => e g.2)]; exact (h4 q).1 hq
  · unfold fn_sendOpening
    rw [vI_send _ _ (by decide), vI_page, ho]
    exact hn
theorem pp_sEHOP {A : w_A} (h : z_pp A) (p : Nat) {x : Int32} (hx : 0 ≤ x) : z_pp (sI A 7 p x) := by
  obtain ⟨h1, h2, h3, h4⟩ := h
  refine ⟨h1, h2, fun q => ?_, h4⟩
  rw [vI_sI]
  split
  · exact hx
  · exact h3 q
theorem pp_sending {A : w_A} (h : z_pp A) {n : Nat} (hB : z_B n A) (hn : n < 2147483647) (p : Nat) (x : Int32) : z_pp (fn_sendEnding A p x) := by
  refine pp_send (pp_page (pp_sEHOP (A := fn_hop A) h p ?_) _) _
  have := hB.2.1
  exact io_pos4 (by omega)
theorem ph_enter {A : w_A} {p n : Nat} {s : Int32} (hI : z_Ip n p A) (hn : n + 64 < 2147483648) (h : z_ph A p) (hs : fn_up A p → ¬ (s = 5 ∨ s = 6)) (ho : s = 2 ∨ s = 4 → ¬ vI A 5 p = 0) : z_pp (fn_enter A p s) := by
  obtain ⟨h1, h2, h3, h4, h5⟩ := h
  have hST := enter_ST A p s
  have hup : ∀ q, fn_up (fn_enter A p s) q ↔ (if q = p then (s = 5 ∨ s = 6) else fn_up A q) := by
    intro q
    unfold fn_up
    rw [hST]
    by_cases e : q = p
    · rw [if_pos e, if_pos e]
    · rw [if_neg e, if_neg e]
  have hIv : ∀ {v : Nat}, v ≠ 14 → v ≠ 15 → v ≠ 16 → v ≠ 17 → v ≠ 0 → v ≠ 1 → v ≠ 2 → v ≠ 3 → v ≠ 4 → v ≠ 6 → ∀ q, vI (fn_enter A p s) v q = vI A v q := fun a b c d e f g h i j q => enter_I A p s a b c d e f g h i j q
  have heh : z_eh (fn_enter A p s) := fun q => by rw [hIv (by decide) (by decide) (by decide) (by decide) (by decide) (by decide) (by decide) (by decide) (by decide) (by decide)]; exact h3 q
  have hoh : ∀ q, z_o1 (fn_enter A p s) q := fun q => by
    unfold z_o1
    rw [hIv (v := 5) (by decide) (by decide) (by decide) (by decide) (by decide) (by decide) (by decide) (by decide) (by decide) (by decide), hST]
    by_cases e : q = p
    · subst e
      rw [if_pos rfl]
      exact ho
    · rw [if_neg e]
      exact (h4 q e).1
  let B := sN (sI A 0 p s) 7 p (vN A 5 0 + 10)
  have eST : ∀ q, ¬ q = p → vI B 0 q = vI A 0 q := fun q hq => by
    show vI (sI A 0 p s) 0 q = _
    rw [vI_sI, if_neg (fun g => hq g.2)]
  have eSTp : vI B 0 p = s := by
    show vI (sI A 0 p s) 0 p = s
    rw [vI_sI, if_pos ⟨rfl, rfl⟩]
  have hq1 : ∀ q, ¬ q = p → z_q1 B q := fun q hq => q1_cong (eST q hq) (fun _ => rfl) (fun _ => rfl) (fun _ => rfl) rfl rfl (h4 q hq).2
  have hQI : z_QI B := hI.2.2
  have hnh : ¬ fn_nh A = 0 := nh_ne hI.1 (by omega)
  have hstne : ∀ q, ¬ q = p → vI (fn_enter A p s) 1 q = vI A 1 q := fun q hq => enter_STATne A p s hq
  have hU : ((vI (fn_enter A p s) 1 p = 1 ∨ vI (fn_enter A p s) 1 p = 2 ∨ vI (fn_enter A p s) 1 p = 4) ↔ (s = 5 ∨ s = 6)) → z_U2 (fn_enter A p s) := by
    intro k q
    rw [hup]
    by_cases e : q = p
    · rw [if_pos e, e]; exact k
    · rw [if_neg e, hstne q e]; exact h1 q
  by_cases hu : fn_up A p
  · have hsn := hs hu
    have ee : fn_enter A p s = fn_leave B p := by
      unfold fn_enter
      dsimp only
      rw [if_pos hu, if_neg hsn]
    refine ⟨hU ?_, ?_, heh, fun q => ⟨hoh q, ?_⟩⟩
    · rw [ee]
      unfold fn_leave
      rw [(giveOver_sv _ p).1 _ p (by decide) (by decide), vI_sN, vI_sI, if_neg (fun g => absurd g.1 (by decide)), vI_sI, if_pos ⟨rfl, rfl⟩]
      exact ⟨fun g => by rcases g with g | g | g <;> exact absurd g (by decide), fun g => absurd g hsn⟩
    · intro q
      rw [ee]
      unfold fn_leave
      rw [(giveOver_sv _ p).1 _ q (by decide) (by decide), (giveOver_sv _ p).1 _ q (by decide) (by decide)]
      simp only [ev_rd, ev_st, aEl, z_w, z_cat, Nat.reduceMod, Nat.reduceDiv, Nat.reduceLeDiff, Nat.reduceLT, Nat.reduceAdd, Nat.reduceMul, Nat.reduceSub, Nat.reduceEqDiff, Int32.reduceLT, Int32.reduceLE, Int32.reduceAdd, Int32.reduceSub, Int32.reduceMul, true_and, and_true, false_and, and_false, true_or, or_true, false_or, or_false, not_true_eq_false, not_false_eq_true, if_true, if_false, reduceIte, ne_eq, and_self, or_self, reduceCtorEq, Option.some.injEq, Prod.mk.injEq, vI_sI]
      by_cases e : q = p
      · simp only [e, ev_rd, ev_st, aEl, z_w, z_cat, Nat.reduceMod, Nat.reduceDiv, Nat.reduceLeDiff, Nat.reduceLT, Nat.reduceAdd, Nat.reduceMul, Nat.reduceSub, Nat.reduceEqDiff, Int32.reduceLT, Int32.reduceLE, Int32.reduceAdd, Int32.reduceSub, Int32.reduceMul, true_and, and_true, false_and, and_false, true_or, or_true, false_or, or_false, not_true_eq_false, not_false_eq_true, if_true, if_false, reduceIte, ne_eq, and_self, or_self, reduceCtorEq, Option.some.injEq, Prod.mk.injEq]
        exact fun g => g.elim
      · simp only [e, ev_rd, ev_st, aEl, z_w, z_cat, Nat.reduceMod, Nat.reduceDiv, Nat.reduceLeDiff, Nat.reduceLT, Nat.reduceAdd, Nat.reduceMul, Nat.reduceSub, Nat.reduceEqDiff, Int32.reduceLT, Int32.reduceLE, Int32.reduceAdd, Int32.reduceSub, Int32.reduceMul, true_and, and_true, false_and, and_false, true_or, or_true, false_or, or_false, not_true_eq_false, not_false_eq_true, if_true, if_false, reduceIte, ne_eq, and_self, or_self, reduceCtorEq, Option.some.injEq, Prod.mk.injEq]
        exact h2 q
    · rw [ee]
      unfold fn_leave
      have hBu : ¬ fn_up (sN (sI (sI B 1 p 3) 2 p 0) 8 p (vN B 5 0 + 30)) p := by
        unfold fn_up
        show ¬ (vI B 0 p = 5 ∨ vI B 0 p = 6)
        rw [eSTp]
        exact hsn
      by_cases e : q = p
      · subst e
        intro i g1 g2
        exfalso
        unfold fn_giveOver at g1 g2
        have hs3 : ¬ vI (sI (sN (sI (sI B 1 q 3) 2 q 0) 8 q (vN B 5 0 + 30)) 3 q (vI (sN (sI (sI B 1 q 3) 2 q 0) 8 q (vN B 5 0 + 30)) 3 q + 1)) 1 q = 2 := by
          simp only [ev_rd, ev_st, aEl, z_w, z_cat, Nat.reduceMod, Nat.reduceDiv, Nat.reduceLeDiff, Nat.reduceLT, Nat.reduceAdd, Nat.reduceMul, Nat.reduceSub, Nat.reduceEqDiff, Int32.reduceLT, Int32.reduceLE, Int32.reduceAdd, Int32.reduceSub, Int32.reduceMul, true_and, and_true, false_and, and_false, true_or, or_true, false_or, or_false, not_true_eq_false, not_false_eq_true, if_true, if_false, reduceIte, ne_eq, and_self, or_self, reduceCtorEq, Option.some.injEq, Prod.mk.injEq, vI_sI]
          decide
        have := gloop_no q _ 0 (sI (sN (sI (sI B 1 q 3) 2 q 0) 8 q (vN B 5 0 + 30)) 3 q (vI (sN (sI (sI B 1 q 3) 2 q 0) 8 q (vN B 5 0 + 30)) 3 q + 1)) hBu hs3 (fun _ _ _ => Nat.zero_le _) i g1 g2
        have hge : vN B 3 0 ≤ i := by rw [Nat.zero_add] at this; exact this
        have hpe : vN (fn_gloop (sI (sN (sI (sI B 1 q 3) 2 q 0) 8 q (vN B 5 0 + 30)) 3 q (vI (sN (sI (sI B 1 q 3) 2 q 0) 8 q (vN B 5 0 + 30)) 3 q + 1)) q (vN B 3 0) 0) 12 i = 0 := by
          have hI2 : z_I n (sI (sN (sI (sI B 1 q 3) 2 q 0) 8 q (vN B 5 0 + 30)) 3 q (vI (sN (sI (sI B 1 q 3) 2 q 0) 8 q (vN B 5 0 + 30)) 3 q + 1)) := by
            have a1 : z_I n B := I_sN (I_ST hI (fun e => absurd (.inl e) hsn) (fun e => absurd (.inr e) hsn)) (.inl rfl) _ _
            exact I_sI (I_sN (I_sI (I_sI a1 (by decide) (by decide) (by decide) (by decide) (by decide) _ _) (by decide) (by decide) (by decide) (by decide) (by decide) _ _) (by decide) _ _) (by decide) (by decide) (by decide) (by decide) (by decide) _ _
          have h64 := hI.1.1.2.2.2.1
          have hI3 := gloop_Inv q (vN B 3 0) 0 n _ hI2 (show n + vN A 3 0 < 2147483648 by omega) (by show 0 + vN B 3 0 ≤ vN B 3 0; omega)
          refine (hI3.2.2.2 i ?_).2.2.1
          rw [gloop_N q (by decide) (by decide) (by decide)]
          exact hge
        rw [show vN (sN (sI (sI B 1 q 3) 2 q 0) 8 q (vN B 5 0 + 30)) 3 0 = vN B 3 0 from rfl] at g2
        omega
      · exact giveOver_q1 (show z_q1 (sN (sI (sI B 1 p 3) 2 p 0) 8 p (vN B 5 0 + 30)) q from hq1 q e)
  · have hnone : ∀ i, vJ B 4 i = 0 → ¬ vN B 12 i = p + 1 := fun i g1 g2 => hu (h5 i g1 g2)
    have hqB : ∀ q, z_q1 B q := fun q => by
      by_cases e : q = p
      · subst e
        exact fun i g1 g2 => absurd g2 (hnone i g1)
      · exact hq1 q e
    by_cases hsu : s = 5 ∨ s = 6
    · have ee : fn_enter A p s = fn_comeUp B p := by
        unfold fn_enter
        dsimp only
        rw [if_neg hu, if_pos hsu]
      have hnB : ¬ fn_nh (sI (sI (sN B 8 p (vN B 5 0 + 30)) 1 p 4) 4 p 0) = 0 := hnh
      refine ⟨hU ⟨fun _ => hsu, fun _ => ?_⟩, ?_, heh, fun q => ⟨hoh q, ?_⟩⟩
      · rw [ee]
        unfold fn_comeUp
        split
        · left
          rw [vI_sI, if_pos ⟨rfl, rfl⟩]
        · right; right
          rw [watch_I _ p (by decide) (by decide) (by decide), vI_sI, if_neg (fun g => absurd g.1 (by decide)), vI_sI, if_pos ⟨rfl, rfl⟩]
      · rw [ee]
        unfold fn_comeUp
        split
        · exact h2
        · exact watch_aw (A := sI (sI (sN B 8 p (vN B 5 0 + 30)) 1 p 4) 4 p 0) h2 hnB p
      · rw [ee]
        unfold fn_comeUp
        split
        · exact hqB q
        · exact watch_q1 (show z_q1 (sI (sI (sN B 8 p (vN B 5 0 + 30)) 1 p 4) 4 p 0) q from hqB q)
    · have ee : fn_enter A p s = B := by
        unfold fn_enter
        dsimp only
        rw [if_neg hu, if_neg hsu]
      have hns : ¬ (vI A 1 p = 1 ∨ vI A 1 p = 2 ∨ vI A 1 p = 4) := fun g => hu ((h1 p).mp g)
      refine ⟨hU ?_, ?_, heh, fun q => ⟨hoh q, ?_⟩⟩
      · rw [ee]
        exact ⟨fun g => absurd g hns, fun g => absurd g hsu⟩
      · rw [ee]; exact h2
      · rw [ee]; exact hqB q
