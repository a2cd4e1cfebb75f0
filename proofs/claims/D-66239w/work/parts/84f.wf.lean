/-! PART 84f (src 84f.wf.src): what holds at every call's end -/
set_option maxHeartbeats 400000
def z_C (n : Nat) (A : w_A) : Prop := z_I n A ∧ z_lk A ∧ z_pp A
def z_H (n : Nat) (A : w_A) (p : Nat) : Prop := z_Ip n p A ∧ z_lh A p ∧ z_ph A p
theorem C_H {n : Nat} {A : w_A} (h : z_C n A) {p : Nat} (hp : p < 4) : z_H n A p := ⟨I_p h.1 p, lk_lh h.2.1 hp, pp_ph h.2.2 p⟩
theorem C_mono {n m : Nat} (h : n ≤ m) {A : w_A} (b : z_C n A) : z_C m A := ⟨I_mono h b.1, b.2⟩
theorem H_closeOwn {n : Nat} {A : w_A} {p : Nat} (hp : p < 4) (h : z_H n A p) : z_H n (fn_closeOwn A p) p := ⟨Ip_closeOwn h.1, lh_closeOwn hp h.2.1, ph_closeOwn h.2.2⟩
theorem H_closeCame {n : Nat} {A : w_A} {p : Nat} (hp : p < 4) (h : z_H n A p) : z_H n (fn_closeCame A p) p := ⟨Ip_closeCame h.1, lh_closeCame hp h.2.1, ph_closeCame h.2.2⟩
theorem sm_ansCame (A : w_A) (p : Nat) : z_sm A (fn_answerCame A p) := sm_trans (sm_refl _ : z_sm A (fn_page A _)) (sm_send _ _)
theorem H_ansCame {n : Nat} {A : w_A} {p : Nat} (h : z_H n A p) : z_H n (fn_answerCame A p) p := ⟨Ip_ansCame h.1, sm_lh (sm_ansCame A p) (fun q _ => vI_send _ _ (by decide) _) h.2.1, ph_ansCame h.2.2 p⟩
theorem C_enter {n : Nat} {A : w_A} {p : Nat} {s : Int32} (hp : p < 4) (hn : n + 64 < 2147483648) (h : z_H n A p) (hs : z_ps s (vN A 9 p) (vN A 10 p)) (hc : z_pc A p s) (hu : fn_up A p → ¬ (s = 5 ∨ s = 6)) (ho : s = 2 ∨ s = 4 → ¬ vI A 5 p = 0) : z_C (n + 64) (fn_enter A p s) := by
  refine ⟨enter_Inv h.1 (fun e => ?_) (fun e => ?_) hn, lk_enter hp h.2.1 hs hc, ph_enter h.1 hn h.2.2 hu ho⟩
  · subst e
    rcases hs with h | h | h | h | h | h | h | h <;> first | exact h.2.2 | exact absurd h.1 (by decide)
  · subst e
    rcases hs with h | h | h | h | h | h | h | h <;> first | exact h.2.1 | exact absurd h.1 (by decide)
theorem C_shut {n : Nat} {A : w_A} {p : Nat} (hp : p < 4) (hn : n + 64 < 2147483648) (h : z_H n A p) : z_C (n + 64) (fn_shut A p) := by
  have e1 : vN (fn_closeCame (fn_closeOwn A p) p) 9 p = 0 := by rw [closeCame_OWN, closeOwn_0]
  have e2 : vN (fn_closeCame (fn_closeOwn A p) p) 10 p = 0 := closeCame_0 _ _
  refine C_enter hp hn (H_closeCame hp (H_closeOwn hp h)) ?_ (fun g => absurd e1 g) (fun _ => by decide) (fun g => g.elim (fun g => absurd g (by decide)) (fun g => absurd g (by decide)))
  rw [e1, e2]
  exact .inl ⟨rfl, rfl, rfl⟩
theorem ans_N (A : w_A) (p v i : Nat) : vN (fn_answerCame A p) v i = vN A v i := by
  unfold fn_answerCame
  rw [vN_send]
  rfl
theorem ans_I (A : w_A) (p : Nat) {v : Nat} (h : v ≠ 14) (i : Nat) : vI (fn_answerCame A p) v i = vI A v i := by
  unfold fn_answerCame
  rw [vI_send _ _ h]
  rfl
theorem C_opened {n : Nat} {A : w_A} {p : Nat} (hp : p < 4) (hn : n + 64 < 2147483648) (h : z_H n A p) (h1 : vN A 9 p = 0) (h2 : ¬ vN A 10 p = 0) (hu : ¬ fn_up A p) : z_C (n + 64) (fn_opened A p) := by
  have e1 : vN (fn_answerCame A p) 9 p = 0 := (ans_N A p _ _).trans h1
  refine C_enter hp hn (H_ansCame h) ?_ (fun g => absurd e1 g) (fun g => absurd ((up_cong (ans_I A p (by decide) p)).mp g) hu) (fun g => g.elim (fun g => absurd g (by decide)) (fun g => absurd g (by decide)))
  rw [e1, ans_N]
  exact .inr (.inr (.inr (.inr (.inr (.inl ⟨rfl, rfl, h2⟩)))))
theorem closeOwn_up (A : w_A) (p q : Nat) : fn_up (fn_closeOwn A p) q ↔ fn_up A q := up_cong (closeOwn_ST A p q)
theorem closeCame_up (A : w_A) (p q : Nat) : fn_up (fn_closeCame A p) q ↔ fn_up A q := up_cong (closeCame_ST A p q)
theorem C_choose {n : Nat} {A : w_A} {p : Nat} (hp : p < 4) (hn : n + 64 < 2147483648) (h : z_H n A p) (h1 : ¬ vN A 9 p = 0) (h2 : ¬ vN A 10 p = 0) (h3 : vI A 12 (vN A 9 p) = 2) (hu : ¬ fn_up A p) (ho : ¬ vI A 5 p = 0) : z_C (n + 64) (fn_choose A p) := by
  unfold fn_choose
  split
  · exact C_opened hp hn (H_closeOwn hp h) (closeOwn_0 _ _) (by rw [closeOwn_CAME]; exact h2) (fun g => hu ((closeOwn_up A p p).mp g))
  · refine C_enter hp hn h (.inr (.inr (.inr (.inr (.inl ⟨rfl, h1, h2⟩))))) (fun _ => ?_) (fun g => absurd g hu) (fun _ => ho)
    rw [h3]
    decide
theorem C_close {n : Nat} {A : w_A} (h : z_C n A) {c : Nat} (hc : vN A 11 c = 0) : z_C n (fn_close A c) := by
  refine ⟨⟨(Ip_close (I_p h.1 0) c).1, h.1.2.1, h.1.2.2⟩, lk_close h.2.1 hc, pp_close h.2.2 c⟩
theorem zps3 {o c : Nat} (h : z_ps 3 o c) : ¬ o = 0 ∧ ¬ c = 0 := by
  rcases h with h | h | h | h | h | h | h | h <;> first | exact h.2 | exact absurd h.1 (by decide)
theorem zps4 {o c : Nat} (h : z_ps 4 o c) : ¬ o = 0 ∧ ¬ c = 0 := by
  rcases h with h | h | h | h | h | h | h | h <;> first | exact absurd h.1 (by decide) | exact h.2
theorem up_not {A : w_A} {p : Nat} {s : Int32} (h : vI A 0 p = s) (h5 : ¬ s = 5) (h6 : ¬ s = 6) : ¬ fn_up A p := fun g => by
  unfold fn_up at g
  rw [h] at g
  exact g.elim h5 h6
theorem C_end {n : Nat} {A : w_A} (h : z_C n A) (hn : n + 64 < 2147483648) {c : Nat} (h1 : 1 ≤ c) (h8 : c ≤ 8) : z_C (n + 64) (fn_end A c) := by
  by_cases hz : vN A 11 c = 0
  · unfold fn_end
    rw [if_pos hz]
    exact C_mono (by omega) (C_close h hz)
  rcases h.2.1.2 c h1 h8 with k | ⟨p, hp, k1, k2⟩
  · exact absurd k.1 hz
  have ep : vN A 11 c - 1 = p := by omega
  have hH := C_H h hp
  have hk := h.2.1.1 p hp
  have hps := hk.2.2
  have e0 : fn_end A c = (if vI A 0 p = 3 then (if vI A 13 c = 1 then fn_opened (if vI A 13 c = 1 then fn_closeOwn A p else fn_closeCame A p) p else fn_enter (if vI A 13 c = 1 then fn_closeOwn A p else fn_closeCame A p) p 1)
      else if vI A 0 p = 4 then (if vI A 13 c = 1 then fn_opened (if vI A 13 c = 1 then fn_closeOwn A p else fn_closeCame A p) p else fn_enter (if vI A 13 c = 1 then fn_closeOwn A p else fn_closeCame A p) p 2)
      else fn_shut (if vI A 13 c = 1 then fn_closeOwn A p else fn_closeCame A p) p) := by
    unfold fn_end
    rw [if_neg hz]
    dsimp only
    rw [ep]
  rw [e0]
  clear e0
  have k21 : ¬ ((2 : Int32) = 1) := by decide
  rcases k2 with ⟨kr, ko⟩ | ⟨kr, ko⟩
  · have hco := H_closeOwn hp hH
    have cc : vN (fn_closeOwn A p) 10 p = vN A 10 p := closeOwn_CAME _ _ _
    rw [if_pos kr, if_pos kr, if_pos kr]
    by_cases h3 : vI A 0 p = 3
    · rw [if_pos h3]
      rw [h3] at hps
      exact C_opened hp hn hco (closeOwn_0 _ _) (by rw [cc]; exact (zps3 hps).2) (fun g => up_not h3 (by decide) (by decide) ((closeOwn_up A p p).mp g))
    rw [if_neg h3]
    by_cases h4 : vI A 0 p = 4
    · rw [if_pos h4]
      rw [h4] at hps
      exact C_opened hp hn hco (closeOwn_0 _ _) (by rw [cc]; exact (zps4 hps).2) (fun g => up_not h4 (by decide) (by decide) ((closeOwn_up A p p).mp g))
    · rw [if_neg h4]
      exact C_shut hp hn hco
  · have hcc := H_closeCame hp hH
    have oo : vN (fn_closeCame A p) 9 p = vN A 9 p := closeCame_OWN _ _ _
    have c0 : vN (fn_closeCame A p) 10 p = 0 := closeCame_0 _ _
    have cs : ¬ vN A 9 p = 0 → vI (fn_closeCame A p) 12 (vN A 9 p) = vI A 12 (vN A 9 p) := fun g => by
      unfold fn_closeCame
      split
      · rfl
      · unfold fn_close
        have : ¬ vN A 9 p = vN A 10 p := fun e => by
          have r1 := (hk.1.1 g).2.2.1
          rw [e, ko, kr] at r1
          exact k21 r1
        simp only [ev_rd, ev_st, aEl, z_w, z_cat, Nat.reduceMod, Nat.reduceDiv, Nat.reduceLeDiff, Nat.reduceLT, Nat.reduceAdd, Nat.reduceMul, Nat.reduceSub, Nat.reduceEqDiff, Int32.reduceLT, Int32.reduceLE, Int32.reduceAdd, Int32.reduceSub, Int32.reduceMul, true_and, and_true, false_and, and_false, true_or, or_true, false_or, or_false, not_true_eq_false, not_false_eq_true, if_true, if_false, reduceIte, ne_eq, and_self, or_self, reduceCtorEq, Option.some.injEq, Prod.mk.injEq, this]
    have oh : vI (fn_closeCame A p) 5 p = vI A 5 p := by
      unfold fn_closeCame
      split <;> rfl
    have kr1 : ¬ vI A 13 c = 1 := by rw [kr]; exact k21
    rw [if_neg kr1, if_neg kr1, if_neg kr1]
    by_cases h3 : vI A 0 p = 3
    · rw [if_pos h3]
      rw [h3] at hps
      have ho := (zps3 hps).1
      refine C_enter hp hn hcc ?_ (fun _ => ?_) (fun g => absurd ((closeCame_up A p p).mp g) (up_not h3 (by decide) (by decide))) (fun g => g.elim (fun g => absurd g (by decide)) (fun g => absurd g (by decide)))
      · rw [oo, c0]; exact .inr (.inl ⟨rfl, ho, rfl⟩)
      · rw [oo, cs ho]
        have := hk.2.1 ho
        rw [h3] at this
        exact ⟨fun _ => .inl rfl, fun _ => this.mpr (.inr rfl)⟩
    rw [if_neg h3]
    by_cases h4 : vI A 0 p = 4
    · rw [if_pos h4]
      rw [h4] at hps
      have ho := (zps4 hps).1
      refine C_enter hp hn hcc ?_ (fun _ => ?_) (fun g => absurd ((closeCame_up A p p).mp g) (up_not h4 (by decide) (by decide))) (fun _ => ?_)
      · rw [oo, c0]; exact .inr (.inr (.inl ⟨rfl, ho, rfl⟩))
      · rw [oo, cs ho]
        have := hk.2.1 ho
        rw [h4] at this
        exact ⟨fun e => absurd (this.mp e) (by decide), fun e => absurd e (by decide)⟩
      · rw [oh]
        exact (h.2.2.2.2.2 p).1 (.inr h4)
    · rw [if_neg h4]
      exact C_shut hp hn hcc
/-! begin, accept -/
theorem Ip_fresh {n p : Nat} {A : w_A} (h : z_Ip n p A) (c q : Nat) (s r : Int32) (hq : q ≤ 4) : z_Ip n p (fn_fresh A c s q r) := by
  have h1 := Ip_INL (Ip_CPEER (Ip_sI (Ip_sI h (v := 12) (by decide) (by decide) (by decide) (by decide) (by decide) c s) (v := 13) (by decide) (by decide) (by decide) (by decide) (by decide) c r) c hq) c (x := 0) (by decide)
  exact ⟨by unfold fn_fresh; rw [B_sL _ _ (.inl rfl)]; exact h1.1, h1.2⟩
theorem C_accept {n : Nat} {A : w_A} (h : z_C n A) {c : Nat} (h1 : 1 ≤ c) (h8 : c ≤ 8) (h0 : vI A 12 c = 0) : z_C n (fn_fresh A c 2 0 0) := by
  refine ⟨⟨(Ip_fresh (I_p h.1 0) c 0 2 0 (by decide)).1, h.1.2.1, h.1.2.2⟩, lk_accept h.2.1 h1 h8 h0, h.2.2⟩
theorem C_begin {n : Nat} {A : w_A} (h : z_C n A) (hn : n + 64 < 2147483648) {p c : Nat} (hp : p < vN A 0 0) (hp4 : p < 4) (hs : vI A 0 p = 0) (h1 : 1 ≤ c) (h8 : c ≤ 8) (h0 : vI A 12 c = 0) : z_C (n + 64) (fn_begin A p c) := by
  have hIp := Ip_OWN (Ip_fresh (I_p h.1 p) c (p + 1) 1 1 (by omega)) h8
  refine ⟨enter_Inv hIp (fun e => absurd e (by decide)) (fun e => absurd e (by decide)) hn, lk_begin h.2.1 hp hp4 hs h1 h8 h0, ?_⟩
  refine ph_enter hIp hn ?_ (fun g => absurd g (up_not (A := sN (fn_fresh A c 1 (p + 1) 1) 9 p c) (s := 0) hs (by decide) (by decide))) (fun g => g.elim (fun g => absurd g (by decide)) (fun g => absurd g (by decide)))
  refine ph_cong (A := A) ⟨fun _ => rfl, fun _ => rfl, fun _ => rfl, fun _ => rfl, fun _ => rfl, fun _ => rfl, fun _ => rfl, fun _ => rfl, fun _ => rfl⟩ (fun q hq => ⟨?_, rfl⟩) (pp_ph h.2.2 p)
  rw [vN_sN, if_neg (fun g => hq g.2)]
  rfl
/-! times, sessions, buffers -/
def z_tm (A : w_A) : Prop := (∀ p, vN A 8 p ≤ vN A 5 0 + 30 ∧ vN A 7 p ≤ vN A 5 0 + 10) ∧ ∀ p, p < vN A 0 0 → vN A 5 0 < vN A 8 p ∧ (fn_given A p → vN A 5 0 < vN A 7 p)
def z_sum (f : Nat → Int) : Nat → Int
  | 0 => 0
  | n + 1 => z_sum f n + f n
def z_S1 (A : w_A) : Prop := ∀ s, s < vN A 2 0 → 1 ≤ vN A 13 s ∧ vN A 13 s ≤ vN A 1 0 ∧ 0 ≤ (vJ A 5 s).toInt ∧ (∃ q, 1 ≤ q ∧ q ≤ vN A 0 0 ∧ vI A 20 s = Int32.ofNat q) ∧ ∃ e, vI A 21 s = Int32.ofNat e ∧ vN A 5 0 < e ∧ e ≤ vN A 5 0 + 600
def z_S2 (A : w_A) : Prop := ∀ a, a < vN A 1 0 → (vJ A 2 a).toInt ≤ (vJ A 1 a).toInt ∧ (vJ A 1 a).toInt ≤ 1152921504606846976 ∧ (vJ A 2 a).toInt = z_sum (fun s => if vN A 13 s = a + 1 then (vJ A 5 s).toInt else 0) (vN A 2 0)
def z_in (A : w_A) : Prop := ∀ c, 1 ≤ c → c ≤ 8 → 4 ≤ vN A 14 c → ∃ m, n3 (vI A 64) c 1 = Int32.ofNat m ∧ 20 ≤ m ∧ m ≤ 600 ∧ m % 4 = 0 ∧ vN A 14 c < m
def z_st (A : w_A) : Prop := z_S1 A ∧ z_S2 A ∧ z_SN A ∧ z_KT A ∧ z_in A ∧ z_LT A ∧ z_let (vL A 0 0) ∧ ∀ r, r < 16 → ¬ vN A 16 0 = r + 1
def z_W (n : Nat) (A : w_A) : Prop := z_C n A ∧ z_tm A ∧ z_st A
theorem fr_tm {A B : w_A} (f : z_fr A B) (h : z_tm A) : z_tm B := by
  obtain ⟨f1, f2, f3, f4, f5, f6, f7, f8⟩ := f
  have hn : vN B 5 0 = vN A 5 0 := f4 _ _ (.inl (by decide))
  have hp : vN B 0 0 = vN A 0 0 := f4 _ _ (.inl (by decide))
  refine ⟨fun p => ?_, fun p h1 => ?_⟩
  · rw [hn]
    have := h.1 p
    refine ⟨?_, ?_⟩
    · rcases f7 p with e | e <;> rw [e] <;> omega
    · rcases f8 p with ⟨-, e⟩ | e <;> rw [e] <;> omega
  · rw [hp] at h1
    rw [hn]
    have := h.2 p h1
    refine ⟨?_, fun g => ?_⟩
    · rcases f7 p with e | e <;> rw [e] <;> omega
    · rcases f8 p with ⟨e, e2⟩ | e
      · rw [e2]
        refine this.2 ?_
        unfold fn_given fn_up at g ⊢
        rw [e] at g
        exact g
      · rw [e]; omega
theorem fr_st {A B : w_A} (f : z_fr A B) (h : z_st A) : z_st B := by
  obtain ⟨f1, f2, f3, f4, f5, f6, f7, f8⟩ := f
  obtain ⟨h1, h2, h3, h4, h5, h6, h7, h8⟩ := h
  have eN : ∀ {v : Nat} (i : Nat), v ≤ 5 ∨ v = 13 ∨ (15 ≤ v ∧ v ≤ 18) → vN B v i = vN A v i := fun i e => f4 _ i e
  have eJ : ∀ {v : Nat} (i : Nat), v ≠ 4 → vJ B v i = vJ A v i := fun i e => f1 _ i e
  have eL : ∀ {v : Nat} (i : Nat), v ≠ 3 → v ≠ 12 → vL B v i = vL A v i := fun i a b => f2 _ i a b
  have eI : ∀ {v : Nat} (i : Nat), v = 11 ∨ 18 ≤ v → vI B v i = vI A v i := fun i e => f5 _ i e
  have s0 : vN B 2 0 = vN A 2 0 := eN _ (by decide)
  refine ⟨fun s hs => ?_, fun a ha => ?_, fun r hr => ?_, fun k hk => ?_, fun c hc1 hc8 h4 => ?_, ?_, ?_, fun r hr => ?_⟩
  · rw [s0] at hs
    rw [eN s (v := 13) (by decide), eN 0 (v := 1) (by decide), eJ s (v := 5) (by decide), eN 0 (v := 0) (by decide), eI s (v := 20) (by decide), eI s (v := 21) (by decide), eN 0 (v := 5) (by decide)]
    exact h1 s hs
  · rw [eN 0 (v := 1) (by decide)] at ha
    rw [eJ a (v := 2) (by decide), eJ a (v := 1) (by decide), s0]
    have e : (fun s => if vN B 13 s = a + 1 then (vJ B 5 s).toInt else 0) = (fun s => if vN A 13 s = a + 1 then (vJ A 5 s).toInt else 0) := by
      funext s
      rw [eN s (v := 13) (by decide), eJ s (v := 5) (by decide)]
    rw [e]
    exact h2 a ha
  · rw [s0] at hr
    rw [eL r (v := 4) (by decide) (by decide), eL r (v := 5) (by decide) (by decide), eL r (v := 6) (by decide) (by decide)]
    exact h3 r hr
  · rw [eN 0 (v := 4) (by decide)] at hk
    rw [eN k (v := 15) (by decide), eN 0 (v := 5) (by decide)]
    exact h4 k hk
  · have e : vI B 64 = vI A 64 := funext fun i => eI i (by decide)
    rw [e]
    rcases f6 c with g | g
    · rw [g] at h4 ⊢
      exact h5 c hc1 hc8 h4
    · rw [g] at h4
      omega
  · refine ⟨?_, fun p => ?_⟩
    · rw [eL 0 (v := 1) (by decide) (by decide)]; exact h6.1
    · rw [eL p (v := 2) (by decide) (by decide)]; exact h6.2 p
  · rw [eL 0 (v := 0) (by decide) (by decide)]; exact h7
  · rw [eN 0 (v := 16) (by decide)]; exact h8 r hr
theorem W_fr {n m : Nat} {A B : w_A} (h : z_W n A) (f : z_fr A B) (c : z_C m B) : z_W m B := ⟨c, fr_tm f h.2.1, fr_st f h.2.2⟩
theorem W_mono {n m : Nat} (h : n ≤ m) {A : w_A} (b : z_W n A) : z_W m A := ⟨C_mono h b.1, b.2⟩
theorem W_end {n : Nat} {A : w_A} (h : z_W n A) (hn : n + 64 < 2147483648) {c : Nat} (h1 : 1 ≤ c) (h8 : c ≤ 8) : z_W (n + 64) (fn_end A c) := W_fr h (fr_end A c) (C_end h.1 hn h1 h8)
theorem C_send {n : Nat} {A : w_A} (h : z_C n A) (c : Nat) : z_C n (fn_send A c) := ⟨I_send h.1 c, sm_lk (sm_send A c) (fun p => vI_send _ _ (by decide) _) h.2.1, pp_send h.2.2 c⟩
theorem C_page {n : Nat} {A : w_A} (h : z_C n A) (l : List Int32) : z_C n (fn_page A l) := h
theorem C_lost {n : Nat} {A : w_A} (h : z_C n A) : z_C n (fn_lost A) := ⟨I_lost h.1, h.2.1, h.2.2⟩
theorem W_page {n : Nat} {A : w_A} (h : z_W n A) (l : List Int32) : z_W n (fn_page A l) := W_fr h (fr_page A l) (C_page h.1 l)
theorem W_send {n : Nat} {A : w_A} (h : z_W n A) (c : Nat) : z_W n (fn_send A c) := W_fr h (fr_send A c) (C_send h.1 c)
theorem W_lost {n : Nat} {A : w_A} (h : z_W n A) : z_W n (fn_lost A) := W_fr h (fr_lost A) (C_lost h.1)
/-! what the contracts ask for -/
theorem W_Sc {n : Nat} {A : w_A} (h : z_W n A) {c : Nat} (h1 : 1 ≤ c) (h8 : c ≤ 8) : z_Sc A c := by
  intro p hp
  rcases h.1.2.1.2 c h1 h8 with k | ⟨q, hq, k1, k2⟩
  · omega
  · have : q = p := by omega
    subst this
    have hps := (h.1.2.1.1 q hq).2.2
    refine ⟨hq, k2, fun e => ?_, fun e => ?_, ?_⟩
    · rcases e with e | e <;> rw [e] at hps
      · exact zps3 hps
      · exact zps4 hps
    · rcases hps with g | g | g | g | g | g | g | g
      · exact .inl g.2.1
      · exact .inr g.2.2
      · exact .inr g.2.2
      · rw [g.1] at e; rcases e with e | e | e | e | e <;> exact absurd e (by decide)
      · rw [g.1] at e; rcases e with e | e | e | e | e <;> exact absurd e (by decide)
      · exact .inl g.2.1
      · exact .inr g.2.2
      · rcases g.2 with g | g
        · exact .inl g.1
        · exact .inr g.2
    · rcases hps with g | g | g | g | g | g | g | g
      · exfalso
        rcases k2 with k2 | k2
        · have := k2.2; omega
        · have := k2.2; omega
      · exact .inl g.1
      · exact .inr (.inl g.1)
      · exact .inr (.inr (.inl g.1))
      · exact .inr (.inr (.inr (.inl g.1)))
      · exact .inr (.inr (.inr (.inr (.inl g.1))))
      · exact .inr (.inr (.inr (.inr (.inr (.inl g.1)))))
      · exact .inr (.inr (.inr (.inr (.inr (.inr g.1)))))
theorem C_Sp {n : Nat} {A : w_A} (h : z_C n A) {p : Nat} (hp : p < 4) : z_Sp A p := by
  have hk := (h.2.1.1 p hp).1
  exact ⟨fun g => ⟨(hk.1 g).2.1, (hk.1 g).2.2.1⟩, fun g => ⟨(hk.2.1 g).2.1, (hk.2.1 g).2.2.1⟩⟩
