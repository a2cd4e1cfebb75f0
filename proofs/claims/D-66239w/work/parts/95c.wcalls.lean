/-! PART 95c (src 95c.wcalls.src): the calls keep what always holds -/
set_option maxHeartbeats 800000
def z_VW (n : Nat) (A : w_A) : Prop := z_W n A ∧ z_ZR A ∧ vP A = none
theorem V_mono {n m : Nat} (h : n ≤ m) {A : w_A} (v : z_VW n A) : z_VW m A := ⟨W_mono h v.1, v.2⟩
theorem V_fr {n m : Nat} {A B : w_A} (h : z_VW n A) (f : z_fr A B) (c : z_C m B) (g : z_fz A B) : z_VW m B := ⟨W_fr h.1 f c, ZR_of h.2.1 g (fa_fr (fa_refl A) f), f.2.2.1.trans h.2.2⟩
theorem V_start {n : Nat} {A : w_A} (h : z_VW n A) (hn : n + 64 < 2147483648) (x : Int32) : z_VW (n + 64) (fn_cStart A x).1 := by
  have hp4 := h.1.1.1.1.1.1
  unfold fn_cStart
  split
  · exact V_mono (by omega) h
  · rename_i p hp
    have hpl := (pk_some (by omega) hp).1
    split
    · rename_i hs
      split
      · exact V_mono (by omega) h
      · rename_i c hc
        have hsp := spare_some hc
        exact V_fr h (fr_begin A p c) (C_begin h.1.1 hn hpl (by omega) hs hsp.1 hsp.2.1 hsp.2.2) (fz_begin (fz_refl A) hpl c)
    · exact V_mono (by omega) h
theorem V_accept {n : Nat} {A : w_A} (h : z_VW n A) : z_VW n (fn_cAccept A).1 := by
  unfold fn_cAccept
  split
  · exact h
  · rename_i c hc
    have hsp := spare_some hc
    exact V_fr h (fr_fresh A c 0 2 0) (C_accept h.1.1 hsp.1 hsp.2.1 hsp.2.2) (fz_fresh (fz_refl A) c 0 2 0)
theorem V_end {n : Nat} {A : w_A} (h : z_VW n A) (hn : n + 64 < 2147483648) {c : Nat} (h1 : 1 ≤ c) (h8 : c ≤ 8) : z_VW (n + 64) (fn_end A c) := V_fr h (fr_end A c) (C_end h.1.1 hn h1 h8) (fz_end (fz_refl A) (fun g => C_cp h.1.1 h1 h8 g))
theorem V_gone {n : Nat} {A : w_A} (h : z_VW n A) (hn : n + 64 < 2147483648) (x : Int32) : z_VW (n + 64) (fn_cGone A x).1 := by
  unfold fn_cGone
  split
  · exact V_mono (by omega) h
  · rename_i k hk
    have := (pk_some (by omega) hk).1
    split
    · exact V_mono (by omega) h
    · exact V_end h hn (by omega) (by omega)
/-- a connection that isn't there yet -/
theorem C_Sn {n : Nat} {A : w_A} (h : z_C n A) {c : Nat} (h1 : 1 ≤ c) (h8 : c ≤ 8) : z_Sn A c := by
  intro g0 g2
  rcases h.2.1.2 c h1 h8 with k | ⟨p, hp, k1, k2⟩
  · exact absurd k.2.2 (fun q => q.elim g0 g2)
  · obtain ⟨a1, a2, a3⟩ := h.2.1.1 p hp
    rcases k2 with ⟨kr, ko⟩ | ⟨kr, ko⟩
    · refine ⟨p, k1, ko, kr, ?_⟩
      have ho : ¬ vN A 9 p = 0 := by omega
      have hc1 : vI A 12 (vN A 9 p) = 1 := by
        rcases (a1.1 ho).2.2.2 with q | q
        · exact q
        · rw [ko] at q; exact absurd q g2
      rcases (a2 ho).mp hc1 with q | q
      · exact .inl q
      · rw [q] at a3
        exact .inr ⟨q, (zps3 a3).2⟩
    · have hc : ¬ vN A 10 p = 0 := by omega
      have := (a1.2.1 hc).2.2.2
      rw [ko] at this
      exact absurd this g2
theorem H_CST {n : Nat} {A : w_A} (h : z_C n A) {p : Nat} (hp : p < 4) (ho : ¬ vN A 9 p = 0) : z_H n (sI A 12 (vN A 9 p) 2) p := by
  obtain ⟨c, hc⟩ : ∃ c, c = vN A 9 p := ⟨_, rfl⟩
  rw [← hc]
  have hpl := (h.2.1.1 p hp).1
  have hop := (hpl.1 ho).2.1
  rw [← hc] at hop
  refine ⟨Ip_sI (I_p h.1 p) (by decide) (by decide) (by decide) (by decide) (by decide) _ _, ⟨fun q hq hn => ?_, fun d d1 d8 => ?_, ?_⟩, ph_cong (A := A) ⟨fun _ => rfl, fun _ => rfl, fun _ => rfl, fun _ => rfl, fun _ => rfl, fun _ => rfl, fun _ => rfl, fun _ => rfl, fun _ => rfl⟩ (fun q hq => ⟨rfl, rfl⟩) (pp_ph h.2.2 p)⟩
  · obtain ⟨⟨k1, k2, k3⟩, k4, k5⟩ := h.2.1.1 q hq
    have n1 : ¬ vN A 9 q = 0 → ¬ vN A 9 q = c := fun g e => by have := (k1 g).2.1; rw [e] at this; omega
    have n2 : ¬ vN A 10 q = 0 → ¬ vN A 10 q = c := fun g e => by have := (k2 g).2.1; rw [e] at this; omega
    have eC : ∀ d, ¬ d = c → vI (sI A 12 c 2) 12 d = vI A 12 d := fun d e => by rw [vI_sI, if_neg (fun g => e g.2)]
    refine ⟨⟨fun g => ⟨(k1 g).1, (k1 g).2.1, (k1 g).2.2.1, ?_⟩, fun g => ⟨(k2 g).1, (k2 g).2.1, (k2 g).2.2.1, ?_⟩, k3⟩, fun g => ?_, k5⟩
    · show vI (sI A 12 c 2) 12 (vN A 9 q) = 1 ∨ vI (sI A 12 c 2) 12 (vN A 9 q) = 2
      rw [eC _ (n1 g)]; exact (k1 g).2.2.2
    · show vI (sI A 12 c 2) 12 (vN A 10 q) = 2
      rw [eC _ (n2 g)]; exact (k2 g).2.2.2
    · show vI (sI A 12 c 2) 12 (vN A 9 q) = 1 ↔ _
      rw [eC _ (n1 g)]; exact k4 g
  · rcases h.2.1.2 d d1 d8 with k | k
    · left
      refine ⟨k.1, k.2.1, ?_⟩
      have e : ¬ d = c := fun e => by rw [e] at k; have := k.1; omega
      show vI (sI A 12 c 2) 12 d = 0 ∨ vI (sI A 12 c 2) 12 d = 2
      rw [vI_sI, if_neg (fun g => e g.2)]
      exact k.2.2
    · exact .inr k
  · obtain ⟨k1, k2, k3⟩ := hpl
    refine ⟨fun g => ⟨(k1 g).1, (k1 g).2.1, (k1 g).2.2.1, ?_⟩, fun g => ⟨(k2 g).1, (k2 g).2.1, (k2 g).2.2.1, ?_⟩, k3⟩
    · show vI (sI A 12 c 2) 12 (vN A 9 p) = 1 ∨ vI (sI A 12 c 2) 12 (vN A 9 p) = 2
      right
      rw [vI_sI, if_pos ⟨rfl, hc.symm⟩]
    · show vI (sI A 12 c 2) 12 (vN A 10 p) = 2
      rw [vI_sI]
      split
      · rfl
      · exact (k2 g).2.2.2
theorem ph_opening {A : w_A} {p : Nat} (h : z_ph A p) (hn : ¬ fn_nh A = 0) : z_ph (fn_sendOpening A p) p ∧ ¬ vI (fn_sendOpening A p) 5 p = 0 := by
  have e : ∀ v q, v ≠ 5 → v ≠ 14 → vI (fn_sendOpening A p) v q = vI A v q := fun v q a b => opening_I A p a b q
  have eN : ∀ v q, v ≠ 6 → vN (fn_sendOpening A p) v q = vN A v q := fun v q a => opening_N A p a q
  have eJ : ∀ i, vJ (fn_sendOpening A p) 4 i = vJ A 4 i := fun i => by
    unfold fn_sendOpening
    rw [vJ_send]
    rfl
  have eO : ∀ q, vI (fn_sendOpening A p) 5 q = if q = p then fn_nh A else vI A 5 q := fun q => by
    unfold fn_sendOpening
    rw [vI_send _ _ (by decide), vI_page, vI_sI]
    by_cases g : q = p
    · rw [if_pos ⟨rfl, g⟩, if_pos g]
    · rw [if_neg (fun x => g x.2), if_neg g]
      rfl
  obtain ⟨h1, h2, h3, h4, h5⟩ := h
  refine ⟨⟨fun q => ?_, fun q => ?_, fun q => ?_, fun q hq => ⟨?_, fun i g1 g2 => ?_⟩, fun i g1 g2 => ?_⟩, ?_⟩
  · rw [e 1 q (by decide) (by decide), up_cong (e 0 q (by decide) (by decide))]; exact h1 q
  · rw [e 2 q (by decide) (by decide), e 6 q (by decide) (by decide)]; exact h2 q
  · rw [e 7 q (by decide) (by decide)]; exact h3 q
  · unfold z_o1
    rw [e 0 q (by decide) (by decide), eO, if_neg hq]
    exact (h4 q hq).1
  · rw [eJ] at g1
    rw [eN 12 i (by decide)] at g2
    rw [up_cong (e 0 q (by decide) (by decide)), eN 19 i (by decide), conn_cong (e 0 q (by decide) (by decide)) (eN 9 q (by decide)) (eN 10 q (by decide))]
    exact (h4 q hq).2 i g1 g2
  · rw [eJ] at g1
    rw [eN 12 i (by decide)] at g2
    rw [up_cong (e 0 p (by decide) (by decide))]
    exact h5 i g1 g2
  · rw [eO, if_pos rfl]; exact hn
theorem H_opening {n : Nat} {A : w_A} {p : Nat} (h : z_H n A p) (hn : n + 64 < 2147483648) : z_H (n + 1) (fn_sendOpening A p) p ∧ ¬ vI (fn_sendOpening A p) 5 p = 0 := by
  have hb := h.1.1
  have hp := ph_opening h.2.2 (nh_0 hb hn)
  refine ⟨⟨?_, sm_lh ⟨fun q => opening_N A p (by decide) q, fun q => opening_N A p (by decide) q, fun q => opening_N A p (by decide) q, fun q => opening_I A p (by decide) (by decide) q, fun q => opening_I A p (by decide) (by decide) q, opening_N A p (by decide) 0⟩ (fun q _ => opening_I A p (by decide) (by decide) q) h.2.1, hp.1⟩, hp.2⟩
  obtain ⟨i1, i2, i3⟩ := h.1
  refine ⟨?_, fun q hq => ?_, ?_⟩
  · unfold fn_sendOpening
    rw [B_send, B_page, B_sI _ _ (by decide)]
    exact B_hop i1
  · rw [opening_I A p (v := 0) (by decide) (by decide) q, opening_N A p (v := 10) (by decide) q, opening_N A p (v := 9) (by decide) q]
    exact i2 q hq
  · have eJ : ∀ i, vJ (fn_sendOpening A p) 4 i = vJ A 4 i := fun i => by
      unfold fn_sendOpening
      rw [vJ_send]
      rfl
    have eH : vN (fn_sendOpening A p) 6 0 = vN A 6 0 + 1 := by
      unfold fn_sendOpening
      rw [vN_send, vN_page, vN_sI, fn_hop, vN_sN, if_pos ⟨rfl, rfl⟩]
    refine ⟨fun i hi => ?_, fun i hi => ?_⟩
    · rw [opening_N A p (v := 3) (by decide) 0] at hi
      obtain ⟨⟨t, t1, t2, t3⟩, q2, q3, q4⟩ := i3.1 i hi
      rw [opening_I A p (v := 15) (by decide) (by decide) i, opening_I A p (v := 17) (by decide) (by decide) i, opening_I A p (v := 16) (by decide) (by decide) i, opening_N A p (v := 12) (by decide) i, eH]
      exact ⟨⟨t, t1, by omega, t3⟩, q2, q3, q4⟩
    · rw [opening_N A p (v := 3) (by decide) 0] at hi
      rw [opening_I A p (v := 15) (by decide) (by decide) i, opening_I A p (v := 17) (by decide) (by decide) i, opening_N A p (v := 12) (by decide) i, eJ]
      exact i3.2 i hi
theorem V_conn {n : Nat} {A : w_A} (h : z_VW n A) (hn : n + 65 < 2147483648) (x on : Int32) : z_VW (n + 65) (fn_cConn A x on).1 := by
  unfold fn_cConn
  split
  · exact V_mono (by omega) h
  · rename_i k hk
    have hk8 := (pk_some (by omega) hk).1
    have h1 : 1 ≤ k + 1 := by omega
    have h8 : k + 1 ≤ 8 := by omega
    generalize k + 1 = c at *
    split
    · exact V_mono (by omega) h
    split
    · exact V_mono (by omega) h
    split
    · exact V_mono (by omega) (V_end h (by omega) h1 h8)
    rename_i g0 g2 _
    obtain ⟨p, p1, p2, p3, p4⟩ := C_Sn h.1.1 h1 h8 g0 g2
    have ep : vN A 11 c - 1 = p := by omega
    have hpp := C_cp h.1.1 h1 h8 (by omega)
    rw [ep] at hpp
    have hp4 := h.1.1.1.1.1.1
    have hp : p < 4 := by omega
    have ho : ¬ vN A 9 p = 0 := by omega
    have hH := H_CST h.1.1 hp ho
    rw [p2] at hH
    obtain ⟨hH2, hoh⟩ := H_opening hH (by omega)
    have eO : vN (fn_sendOpening (sI A 12 c 2) p) 9 p = c := (opening_N _ p (by decide) p).trans p2
    have eA : vN (fn_sendOpening (sI A 12 c 2) p) 10 p = vN A 10 p := opening_N _ p (by decide) p
    have eS : vI (fn_sendOpening (sI A 12 c 2) p) 0 p = vI A 0 p := opening_I _ p (by decide) (by decide) p
    have eC : vI (fn_sendOpening (sI A 12 c 2) p) 12 c = 2 := (opening_I _ p (by decide) (by decide) c).trans (by rw [vI_sI, if_pos ⟨rfl, rfl⟩])
    have hps := (h.1.1.2.1.1 p hp).2.2
    have f1 : z_fr A (fn_sendOpening (sI A 12 c 2) p) := fr_trans (fr_I A (by decide) (by decide) (by decide) _ _) (fr_opening _ p)
    have z1 : z_fz A (fn_sendOpening (sI A 12 c 2) p) := fz_opening (fz_I (fz_refl A) _ _ (.inl (by decide))) hpp
    dsimp only
    rw [ep]
    have hu : ¬ fn_up (fn_sendOpening (sI A 12 c 2) p) p := fun g => by
      have g : fn_up A p := (up_cong eS).mp g
      rcases p4 with q | q
      · exact up_not q (by decide) (by decide) g
      · exact up_not q.1 (by decide) (by decide) g
    generalize fn_sendOpening (sI A 12 c 2) p = B at *
    split
    · rename_i h3
      rw [h3] at hps
      exact V_fr h (fr_trans f1 (fr_choose B p)) (C_mono (by omega) (C_choose hp (by omega) hH2 (by rw [eO]; omega) (by rw [eA]; exact (zps3 hps).2) (by rw [eO]; exact eC) hu hoh)) (fz_choose z1 hpp)
    · rename_i h3
      have hs1 : vI A 0 p = 1 := p4.elim id (fun q => absurd q.1 h3)
      have hca : vN A 10 p = 0 := by
        rw [hs1] at hps
        rcases hps with q | q | q | q | q | q | q | q
        · exact q.2.2
        · exact q.2.2
        · exact q.2.2
        all_goals exact absurd q.1 (by decide)
      refine V_fr h (fr_trans f1 (fr_enter B p 2)) (C_mono (by omega) (C_enter hp (by omega) hH2 (.inr (.inr (.inl ⟨rfl, by rw [eO]; omega, by rw [eA]; exact hca⟩))) (fun _ => ?_) (fun g => absurd g hu) (fun _ => hoh))) (fz_enter z1 hpp 2)
      rw [eO, eC]
      decide
theorem ending_N (A : w_A) (p : Nat) (cause : Int32) {v : Nat} (h : v ≠ 6) (j : Nat) : vN (fn_sendEnding A p cause) v j = vN A v j := by
  unfold fn_sendEnding
  rw [vN_send, vN_page, vN_sI, fn_hop, vN_sN, if_neg (fun e => h e.1)]
theorem ending_I (A : w_A) (p : Nat) (cause : Int32) {v : Nat} (h : v ≠ 7) (h2 : v ≠ 14) (j : Nat) : vI (fn_sendEnding A p cause) v j = vI A v j := by
  unfold fn_sendEnding
  rw [vI_send _ _ h2, vI_page, vI_sI, if_neg (fun e => h e.1)]
  rfl
theorem V_stop {n : Nat} {A : w_A} (h : z_VW n A) (hn : n + 65 < 2147483648) (x cause : Int32) : z_VW (n + 65) (fn_cStop A x cause).1 := by
  have hp4 := h.1.1.1.1.1.1
  unfold fn_cStop
  split
  · exact V_mono (by omega) h
  · rename_i p hp
    have hpp := (pk_some (by omega) hp).1
    split
    · split
      · rename_i hu
        have hC : z_C (n + 1) (fn_sendEnding A p cause) := by
          refine ⟨ending_Inv h.1.1.1, sm_lk ?_ (fun q => ending_I A p cause (by decide) (by decide) q) h.1.1.2.1, pp_sending h.1.1.2.2 h.1.1.1.1 (by omega) p cause⟩
          exact ⟨fun q => ending_N A p cause (by decide) q, fun q => ending_N A p cause (by decide) q, fun q => ending_N A p cause (by decide) q, fun q => ending_I A p cause (by decide) (by decide) q, fun q => ending_I A p cause (by decide) (by decide) q, ending_N A p cause (by decide) 0⟩
        have hu2 : fn_up (fn_sendEnding A p cause) p := (up_cong (ending_I A p cause (by decide) (by decide) p)).mpr hu
        exact V_fr h (fr_trans (fr_sending A p cause) (fr_enter _ p 7)) (C_mono (by omega) (C_up7 hC (by omega) (by omega) hu2)) (fz_enter (fz_sending (fz_refl A) hpp cause) hpp 7)
      · exact V_mono (by omega) h
    · exact V_mono (by omega) h
theorem V_take {n : Nat} {A : w_A} (h : z_VW n A) (x : Int32) : z_VW n (fn_cTake A x).1 := by
  unfold fn_cTake
  split
  · exact h
  · split
    · exact h
    · rename_i k _ b l _
      exact V_fr h (fr_L A (.inl rfl) _ _) ⟨⟨by rw [B_sL _ _ (.inl rfl)]; exact h.1.1.1.1, h.1.1.1.2⟩, h.1.1.2⟩ (fz_refl A)
theorem V_tick {n : Nat} {A : w_A} (h : z_VW n A) (hN : vN A 5 0 + 2000 ≤ 200000) (hn : n + 1024000 < 2147483648) (x : Int32) : z_VW (n + 1024000) (fn_cTick A x).1 ∧ vN (fn_cTick A x).1 5 0 ≤ vN A 5 0 + 2000 := by
  unfold fn_cTick
  split
  · exact ⟨V_mono (by omega) h, (by omega : vN A 5 0 ≤ vN A 5 0 + 2000)⟩
  · rename_i hc
    obtain ⟨m, rfl, m1, m2, m3⟩ := tk_in (N := vN A 5 0) (by omega) (fun g => hc (.inl g)) (Classical.not_not.mp fun g => hc (.inr g))
    rw [m3]
    obtain ⟨w1, w2⟩ := W_tick (m - vN A 5 0) n 0 A h.1 (by omega) (by omega)
    refine ⟨⟨W_mono (by omega) w1, ZR_of h.2.1 (fz_tick _ _ _ (fz_refl A)) (fa_tick _ n _ _ h.1 (by omega) (by omega)), tick_P _ _ _ h.2.2⟩, ?_⟩
    show vN (fn_tick (m - vN A 5 0) A 0).1 5 0 ≤ _
    rw [w2]; omega
