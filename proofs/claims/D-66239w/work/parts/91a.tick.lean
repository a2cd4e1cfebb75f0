/-! PART 91a (src 91a.tick.src): a second keeps peers and connections together -/
set_option maxHeartbeats 400000
theorem nh_0 {n : Nat} {A : w_A} (h : z_B n A) (hn : n + 64 < 2147483648) : ¬ fn_nh A = 0 := by
  have := h.2.1
  unfold fn_nh
  rw [io_eq_l (by omega) (by decide)]
  exact fun e => by
    have e : vN A 6 0 + 1 = 0 := e
    omega
theorem C_watch {n : Nat} {A : w_A} (h : z_C n A) (hn : n + 64 < 2147483648) (p : Nat) : z_C (n + 1) (fn_sendWatch A p) := by
  refine ⟨watch_Inv h.1 p, sm_lk ?_ (fun q => watch_I A p (by decide) (by decide) (by decide) q) h.2.1, pp_watch h.2.2 (nh_0 h.1.1 hn) p⟩
  refine ⟨fun q => watch_N A p (by decide) q, fun q => watch_N A p (by decide) q, fun q => watch_N A p (by decide) q, fun q => watch_I A p (by decide) (by decide) (by decide) q, fun q => watch_I A p (by decide) (by decide) (by decide) q, watch_N A p (by decide) 0⟩
theorem C_giveOver {n : Nat} {A : w_A} (h : z_C n A) (hn : n + 64 < 2147483648) (p : Nat) : z_C (n + 64) (fn_giveOver A p) := by
  refine ⟨giveOver_Inv h.1 p hn, sm_lk ?_ (fun q => giveOver_I A p (by decide) (by decide) (by decide) (by decide) (by decide) q) h.2.1, pp_giveOver h.2.2 p⟩
  refine ⟨fun q => giveOver_N A p (by decide) (by decide) (by decide) q, fun q => giveOver_N A p (by decide) (by decide) (by decide) q, fun q => giveOver_N A p (by decide) (by decide) (by decide) q, fun q => giveOver_I A p (by decide) (by decide) (by decide) (by decide) (by decide) q, fun q => giveOver_I A p (by decide) (by decide) (by decide) (by decide) (by decide) q, giveOver_N A p (by decide) (by decide) (by decide) 0⟩
theorem C_ring {n : Nat} {A : w_A} (h : z_C n A) (hn : n + 64 < 2147483648) {p : Nat} (hp : p < 4) (hpp : p < vN A 0 0) : z_C (n + 64) (fn_ring A p) := by
  have hB := C_DUE h p (vN A 5 0 + 30)
  have hU := h.2.2.1 p
  unfold fn_ring
  dsimp only
  split
  · rename_i h1
    split
    · exact C_mono (by omega) (C_watch hB hn p)
    · exact C_giveOver (C_STAT hB (hU.mp (.inl h1)) (.inr (.inl rfl))) hn p
  split
  · exact C_shut hp hn (C_H hB hp)
  split
  · split
    · exact C_mono (by omega) (C_watch hB hn p)
    · exact C_shut hp hn (C_H hB hp)
  split
  · rename_i hs
    split
    · rename_i c hc
      have hsp := spare_some hc
      exact C_begin hB hn hpp hp hs.2 hsp.1 hsp.2.1 hsp.2.2
    · exact C_mono (by omega) hB
  · exact C_mono (by omega) hB
theorem fr_pt (A : w_A) (p : Nat) : z_fr A (fn_pt A p).1 := by
  have h1 : z_fr A (if fn_given A p ∧ vN A 7 p = vN A 5 0 then (fn_shut A p, 1) else (A, 0) : w_A × Nat).1 := by
    split
    · exact fr_shut A p
    · exact fr_refl A
  unfold fn_pt
  dsimp only
  generalize (if fn_given A p ∧ vN A 7 p = vN A 5 0 then (fn_shut A p, 1) else (A, 0) : w_A × Nat) = r at *
  split
  · exact fr_trans h1 (fr_ring r.1 p)
  · exact h1
theorem C_pt {n : Nat} {A : w_A} (h : z_C n A) (hn : n + 128 < 2147483648) {p : Nat} (hp : p < 4) (hpp : p < vN A 0 0) : z_C (n + 128) (fn_pt A p).1 := by
  have h1 : z_C (n + 64) (if fn_given A p ∧ vN A 7 p = vN A 5 0 then (fn_shut A p, 1) else (A, 0) : w_A × Nat).1 := by
    split
    · exact C_shut hp (by omega) (C_H h hp)
    · exact C_mono (by omega) h
  have h2 : vN (if fn_given A p ∧ vN A 7 p = vN A 5 0 then (fn_shut A p, 1) else (A, 0) : w_A × Nat).1 0 0 = vN A 0 0 := by
    split
    · exact (fr_shut A p).2.2.2.1 _ _ (.inl (by decide))
    · rfl
  unfold fn_pt
  dsimp only
  generalize (if fn_given A p ∧ vN A 7 p = vN A 5 0 then (fn_shut A p, 1) else (A, 0) : w_A × Nat) = r at *
  split
  · exact C_ring h1 (by omega) hp (by rw [h2]; exact hpp)
  · exact C_mono (by omega) h1
