/-! PART 95d (src 95d.wcalls.src): names, peers, accounts, questions: the calls keep what always holds -/
set_option maxHeartbeats 800000
theorem V_kept {n : Nat} {A : w_A} (h : z_VW n A) : z_VW n (fn_cKept A).1 := ⟨W_stale h.1, ZR_of h.2.1 (fz_stale (fz_refl A)) (fa_stale A), (stl_P _ _).trans h.2.2⟩
theorem W_AT {n : Nat} {A : w_A} (h : z_W n A) {l : List Int32} (h1 : z_nm l) (h2 : z_let l) : z_W n (sL A 0 0 l) := by
  obtain ⟨⟨⟨⟨b1, b2, b3, b4, b5, b6, b7, b8, b9, b10, b11, b12, b13⟩, hL, hQ⟩, hlk, hpp⟩, ht, s1, s2, s3, s4, s5, s6, s7, s8⟩ := h
  refine ⟨⟨⟨⟨b1, b2, b3, b4, b5, b6, ?_, b8, b9, b10, b11, b12, b13⟩, hL, hQ⟩, hlk, hpp⟩, ht, s1, s2, s3, s4, s5, s6, ?_, s8⟩
  · rw [vL_sL, if_pos ⟨rfl, rfl⟩]; exact h1
  · rw [vL_sL, if_pos ⟨rfl, rfl⟩]; exact h2
theorem W_HOST {n : Nat} {A : w_A} (h : z_W n A) {l : List Int32} (h1 : z_nm l) (h2 : z_let l) : z_W n (sL A 1 0 l) := by
  obtain ⟨⟨⟨⟨b1, b2, b3, b4, b5, b6, b7, b8, b9, b10, b11, b12, b13⟩, hL, hQ⟩, hlk, hpp⟩, ht, s1, s2, s3, s4, s5, s6, s7, s8⟩ := h
  refine ⟨⟨⟨⟨b1, b2, b3, b4, b5, b6, b7, ?_, b9, b10, b11, b12, b13⟩, hL, hQ⟩, hlk, hpp⟩, ht, s1, s2, s3, s4, s5, ⟨?_, s6.2⟩, s7, s8⟩
  · rw [vL_sL, if_pos ⟨rfl, rfl⟩]; exact h1
  · rw [vL_sL, if_pos ⟨rfl, rfl⟩]; exact h2
theorem nil_nm : z_nm [] := ⟨Nat.zero_le _, z_by_nil⟩
theorem nil_let : z_let [] := fun _ h => by cases h
theorem isL_k {b : Int32} (h : fn_isL b) : nb b = b ∧ 0 ≤ b := by
  have key : ∀ k, k < 128 → nb (Int32.ofNat k) = Int32.ofNat k ∧ 0 ≤ Int32.ofNat k := by decide
  have hb : 0 ≤ b.toInt ∧ b.toInt < 128 := by
    rcases h with ⟨h1, h2⟩ | ⟨h1, h2⟩ | h | h
    · rw [Int32.le_iff_toInt_le] at h1 h2
      rw [show (97 : Int32).toInt = 97 from rfl] at h1
      rw [show (122 : Int32).toInt = 122 from rfl] at h2
      omega
    · rw [Int32.le_iff_toInt_le] at h1 h2
      rw [show (48 : Int32).toInt = 48 from rfl] at h1
      rw [show (57 : Int32).toInt = 57 from rfl] at h2
      omega
    · rw [h]; decide
    · rw [h]; decide
  have e : b = Int32.ofNat b.toInt.toNat := by
    apply Int32.toInt_inj.mp
    rw [io_toInt (by omega)]
    omega
  rw [e]
  exact key _ (by omega)
theorem sm_ok {c : Int32} {l : List Int32} (h : ¬ fn_sb c l) : ∀ x, x ∈ fn_sm c l → fn_isL x := by
  intro x hx
  unfold fn_sm at hx
  obtain ⟨h1, h2⟩ := List.mem_filter.mp hx
  obtain ⟨a, ha, rfl⟩ := List.mem_map.mp h1
  have h2 : ¬ fn_sg c a = 0 := of_decide_eq_true h2
  exact Classical.byContradiction fun g => h ⟨a, ha, h2, g⟩
theorem V_sL {n : Nat} {A : w_A} (h : z_VW n A) {v i : Nat} {l : List Int32} (w : z_W n (sL A v i l)) : z_VW n (sL A v i l) := ⟨w, ZR_of h.2.1 (fz_refl A) (fa_refl A), h.2.2⟩
theorem V_sign {n : Nat} {A : w_A} (h : z_VW n A) (c : Int32) : z_VW n (fn_cSign A c).1 := by
  unfold fn_cSign
  split
  · exact V_sL h (W_AT h.1 nil_nm nil_let)
  split
  · exact h
  split
  · rename_i hnb h40
    have hA := h.1.1.1.1.2.2.2.2.2.2.1
    have hl := h.1.2.2.2.2.2.2.2.2.1
    have key : ∀ y, y ∈ (fn_sm c z_shf).map nb → nb y = y ∧ 0 ≤ y := by
      intro y hy
      obtain ⟨x, hx, rfl⟩ := List.mem_map.mp hy
      have := isL_k (sm_ok hnb x hx)
      rw [this.1]
      exact this
    refine V_sL h (W_AT h.1 ⟨?_, fun x hx => ?_⟩ fun x hx => ?_)
    · rw [List.length_append, List.length_map]; exact h40
    · rcases List.mem_append.mp hx with g | g
      · exact hA.2 x g
      · exact (key x g).1
    · rcases List.mem_append.mp hx with g | g
      · exact hl x g
      · exact key x g
  · exact h
theorem V_own {n : Nat} {A : w_A} (h : z_VW n A) : z_VW n (fn_cOwn A).1 := by
  unfold fn_cOwn
  split
  · exact h
  split
  · exact h
  · have h1 := V_sL h (W_HOST h.1 h.1.1.1.1.2.2.2.2.2.2.1 h.1.2.2.2.2.2.2.2.2.1)
    exact V_sL h1 (W_AT h1.1 nil_nm nil_let)
theorem V_account {n : Nat} {A : w_A} (h : z_VW n A) (y b : Int64) : z_VW n (fn_cAccount A y b).1 := by
  unfold fn_cAccount
  split
  · exact h
  split
  · exact h
  split
  · exact h
  rename_i hr _ h16
  have hb0 : 0 ≤ b.toInt ∧ b.toInt ≤ 1152921504606846976 := by
    have g : 0 ≤ b ∧ b ≤ 1152921504606846976 := Classical.byContradiction fun g => hr (.inr g)
    rw [Int64.le_iff_toInt_le, Int64.le_iff_toInt_le] at g
    rw [show (0 : Int64).toInt = 0 from rfl, show (1152921504606846976 : Int64).toInt = 1152921504606846976 from rfl] at g
    exact g
  obtain ⟨hW, hZ, hP⟩ := h
  obtain ⟨a, ha⟩ : ∃ a, a = vN A 1 0 := ⟨_, rfl⟩
  rw [← ha] at h16 ⊢
  have hz := hZ.2.2 a (by omega)
  have eB : ∀ c, vJ (sN (sJ (sJ A 0 a y) 1 a b) 1 0 (a + 1)) 1 c = if c = a then b else vJ A 1 c := fun c => by
    show vJ (sJ (sJ A 0 a y) 1 a b) 1 c = _
    rw [vJ_sJ]
    by_cases e : c = a
    · rw [if_pos ⟨rfl, e⟩, if_pos e]
    · rw [if_neg (fun g => e g.2), if_neg e]
      rfl
  have hZ1 : ∀ q, vN (sN (sJ (sJ A 0 a y) 1 a b) 1 0 (a + 1)) 0 0 ≤ q → (∀ v, v ≤ 11 → vI A v q = 0) ∧ ∀ v, 7 ≤ v → v ≤ 10 → vN (sN (sJ (sJ A 0 a y) 1 a b) 1 0 (a + 1)) v q = 0 := fun q hq => ⟨(hZ.1 q hq).1, fun v h7 h10 => by
    rw [vN_sN, if_neg (fun g => by omega)]
    exact (hZ.1 q hq).2 v h7 h10⟩
  refine ⟨?_, ⟨hZ1, hZ.2.1, fun c hc v hv => ?_⟩, hP⟩
  · obtain ⟨⟨⟨⟨b1, b2, b3, b4, b5, b6, b7, b8, b9, b10, b11, b12, b13⟩, hL, hQ⟩, hlk, hpp⟩, ht, s1, s2, s3, s4, s5, s6, s7, s8⟩ := hW
    refine ⟨⟨⟨⟨⟨b1.1, ?_, b1.2.2⟩, b2, b3, b4, b5, b6, b7, b8, b9, b10, b11, b12, b13⟩, hL, hQ⟩, hlk, hpp⟩, ht, fun s hs => ?_, fun c hc => ?_, s3, s4, s5, s6, s7, s8⟩
    · show a + 1 ≤ 16
      have := b1.2.1
      omega
    · obtain ⟨g1, g2, g3, g4, g5⟩ := s1 s hs
      refine ⟨g1, ?_, g3, g4, g5⟩
      show vN A 13 s ≤ a + 1
      omega
    · have hc : c < a + 1 := hc
      show (vJ A 2 c).toInt ≤ (vJ (sN (sJ (sJ A 0 a y) 1 a b) 1 0 (a + 1)) 1 c).toInt ∧ (vJ (sN (sJ (sJ A 0 a y) 1 a b) 1 0 (a + 1)) 1 c).toInt ≤ 1152921504606846976 ∧ (vJ A 2 c).toInt = z_sum (fun s => if vN A 13 s = c + 1 then (vJ A 5 s).toInt else 0) (vN A 2 0)
      rw [eB]
      by_cases e : c = a
      · rw [if_pos e, e, hz 2 (by decide)]
        refine ⟨hb0.1, hb0.2, ?_⟩
        have : ∀ m, m ≤ vN A 2 0 → z_sum (fun s => if vN A 13 s = a + 1 then (vJ A 5 s).toInt else 0) m = 0 := by
          intro m
          induction m with
          | zero => intro _; rfl
          | succ m ih =>
            intro hm
            show z_sum (fun s => if vN A 13 s = a + 1 then (vJ A 5 s).toInt else 0) m + (if vN A 13 m = a + 1 then (vJ A 5 m).toInt else 0) = 0
            rw [ih (by omega), if_neg (by have := (s1 m (by omega)).2.1; omega)]
            rfl
        rw [this _ (Nat.le_refl _)]
        rfl
      · rw [if_neg e]
        exact s2 c (by omega)
  · have hc : a + 1 ≤ c := hc
    show vJ (sJ (sJ A 0 a y) 1 a b) v c = 0
    rw [vJ_sJ, if_neg (fun g => by omega), vJ_sJ, if_neg (fun g => by omega)]
    exact hZ.2.2 c (by omega) v hv
theorem V_peer {n : Nat} {A : w_A} (h : z_VW n A) (x : Int32) : z_VW n (fn_cPeer A x).1 := by
  unfold fn_cPeer
  split
  · exact h
  split
  · exact h
  split
  · exact h
  rename_i _ _ h4
  obtain ⟨hW, hZ, hP⟩ := h
  obtain ⟨m, hm⟩ : ∃ m, m = vN A 0 0 := ⟨_, rfl⟩
  rw [← hm] at h4 ⊢
  have hz := hZ.1 m (by omega)
  have eI : ∀ v q, ¬ (v = 11 ∧ q = m) → vI (sN (sL (sL (sN (sI A 11 m x) 8 m (vN A 5 0 + 30)) 2 m (vL A 0 0)) 0 0 []) 0 0 (m + 1)) v q = vI A v q := fun v q g => by
    show vI (sI A 11 m x) v q = _
    rw [vI_sI, if_neg g]
  have eD : ∀ q, vN (sN (sL (sL (sN (sI A 11 m x) 8 m (vN A 5 0 + 30)) 2 m (vL A 0 0)) 0 0 []) 0 0 (m + 1)) 8 q = if q = m then vN A 5 0 + 30 else vN A 8 q := fun q => by
    show vN (sN (sI A 11 m x) 8 m (vN A 5 0 + 30)) 8 q = _
    rw [vN_sN]
    by_cases e : q = m
    · rw [if_pos ⟨rfl, e⟩, if_pos e]
    · rw [if_neg (fun g => e g.2), if_neg e]
      rfl
  have eL : ∀ q, vL (sN (sL (sL (sN (sI A 11 m x) 8 m (vN A 5 0 + 30)) 2 m (vL A 0 0)) 0 0 []) 0 0 (m + 1)) 2 q = if q = m then vL A 0 0 else vL A 2 q := fun q => by
    show vL (sL (sN (sI A 11 m x) 8 m (vN A 5 0 + 30)) 2 m (vL A 0 0)) 2 q = _
    rw [vL_sL]
    by_cases e : q = m
    · rw [if_pos ⟨rfl, e⟩, if_pos e]
    · rw [if_neg (fun g => e g.2), if_neg e]
      rfl
  refine ⟨?_, ⟨fun q hq => ⟨fun v hv => ?_, fun v h7 h10 => ?_⟩, fun i => ?_, hZ.2.2⟩, hP⟩
  · obtain ⟨⟨⟨⟨b1, b2, b3, b4, b5, b6, b7, b8, b9, b10, b11, b12, b13⟩, hL, hQ⟩, hlk, hpp⟩, ht, s1, s2, s3, s4, s5, s6, s7, s8⟩ := hW
    have hst0 : vI A 0 m = 0 := hz.1 0 (by decide)
    refine ⟨⟨⟨⟨⟨?_, b1.2⟩, b2, b3, b4, b5, b6, nil_nm, b8, fun q => ?_, b10, b11, b12, b13⟩, hL, hQ⟩, ⟨fun p hp => ?_, hlk.2⟩, hpp⟩, ⟨fun p => ?_, fun p hp => ?_⟩, fun s hs => ?_, s2, s3, s4, s5, ⟨s6.1, fun q => ?_⟩, nil_let, s8⟩
    · show m + 1 ≤ 4
      have := b1.1
      omega
    · rw [eL]
      split
      · exact b7
      · exact b9 q
    · obtain ⟨⟨k1, k2, k3⟩, k4, k5⟩ := hlk.1 p hp
      refine ⟨⟨k1, k2, ?_⟩, k4, k5⟩
      show p < m + 1 ∨ (vN A 9 p = 0 ∧ vN A 10 p = 0)
      rcases k3 with g | g
      · exact .inl (by omega)
      · exact .inr g
    · rw [eD]
      have := ht.1 p
      refine ⟨?_, this.2⟩
      show _ ≤ vN A 5 0 + 30
      split
      · omega
      · exact this.1
    · have hp : p < m + 1 := hp
      rw [eD]
      show vN A 5 0 < _ ∧ _
      by_cases e : p = m
      · rw [if_pos e]
        refine ⟨by omega, fun g => ?_⟩
        have g1 : ¬ vI A 0 p = 0 := g.1
        rw [e] at g1
        exact absurd hst0 g1
      · rw [if_neg e]
        exact ht.2 p (by omega)
    · obtain ⟨g1, g2, g3, ⟨q, q1, q2, q3⟩, g5⟩ := s1 s hs
      refine ⟨g1, g2, g3, ⟨q, q1, ?_, q3⟩, g5⟩
      show q ≤ m + 1
      omega
    · rw [eL]
      split
      · exact s7
      · exact s6.2 q
  · have hq : m + 1 ≤ q := hq
    rw [eI v q (by omega)]
    exact (hZ.1 q (by omega)).1 v hv
  · have hq : m + 1 ≤ q := hq
    have h := (hZ.1 q (by omega)).2 v h7 h10
    show vN (sN (sN A 8 m (vN A 5 0 + 30)) 0 0 (m + 1)) v q = 0
    rw [vN_sN, if_neg (fun g => by omega), vN_sN, if_neg (fun g => by omega)]
    exact h
  · have := hZ.2.1 i
    show vN A 12 i ≤ m + 1
    omega
/-! a question -/
theorem pp_put {A : w_A} (h : z_pp A) (i : Nat) {b : Nat} (hb : fn_up A b) : z_pp (fn_put A i b) := by
  obtain ⟨h1, h2, h3, h4⟩ := h
  have e : ∀ v q, v ≤ 7 → vI (fn_put A i b) v q = vI A v q := fun v q hv => put_I A i b (by show v ≠ 14; omega) (by show v ≠ 15; omega) (by show v ≠ 16; omega) (by show v ≠ 17; omega) q
  refine ⟨fun q => ?_, fun q => ?_, fun q => ?_, fun q => ⟨?_, put_q1 hb (h4 q).2⟩⟩
  · rw [e 1 q (by decide), up_cong (e 0 q (by decide))]; exact h1 q
  · rw [e 2 q (by decide), e 6 q (by decide)]; exact h2 q
  · rw [e 7 q (by decide)]; exact h3 q
  · unfold z_o1
    rw [e 0 q (by decide), e 5 q (by decide)]
    exact (h4 q).1
theorem put_sm (A : w_A) (i b : Nat) : z_sm A (fn_put A i b) := ⟨fun p => put_N A i b (by decide) (by decide) (by decide) p, fun p => put_N A i b (by decide) (by decide) (by decide) p, fun p => put_N A i b (by decide) (by decide) (by decide) p, fun p => put_I A i b (by decide) (by decide) (by decide) (by decide) p, fun p => put_I A i b (by decide) (by decide) (by decide) (by decide) p, put_N A i b (by decide) (by decide) (by decide) 0⟩
theorem put_QIn {D : w_A} {n i b : Nat} (h1 : ∀ j, j < i → (∃ t, 1 ≤ t ∧ t ≤ vN D 6 0 ∧ vI D 15 j = Int32.ofNat t) ∧ ¬ vI D 17 j = 0 ∧ ¬ vI D 16 j = 0 ∧ ¬ vN D 12 j = 0) (h2 : ∀ j, i ≤ j → vI D 15 j = 0 ∧ vI D 17 j = 0 ∧ vN D 12 j = 0 ∧ vJ D 4 j = 0) (hB : z_B n D) (hn : n < 2147483647) (hi : vN D 3 0 = i + 1) : z_QI (fn_put D i b) := by
  have hh := nh_ne hB hn
  have hb := hB.2.1
  obtain ⟨l, e⟩ := put_eq D i b
  have hp : vN (fn_put D i b) 3 0 = vN D 3 0 := put_N D i b (by decide) (by decide) (by decide) 0
  refine ⟨fun j hj => ?_, fun j hj => ?_⟩
  · rw [hp, hi] at hj
    rw [put_hops, e, vI_send _ _ (by decide), vI_send _ _ (by decide), vI_send _ _ (by decide), vN_send, vI_page, vI_page, vI_page, vN_page, fn_putA]
    simp only [ev_rd, ev_st, aEl, z_w, z_cat, Nat.reduceMod, Nat.reduceDiv, Nat.reduceLeDiff, Nat.reduceLT, Nat.reduceAdd, Nat.reduceMul, Nat.reduceSub, Nat.reduceEqDiff, Int32.reduceLT, Int32.reduceLE, Int32.reduceAdd, Int32.reduceSub, Int32.reduceMul, true_and, and_true, false_and, and_false, true_or, or_true, false_or, or_false, not_true_eq_false, not_false_eq_true, if_true, if_false, reduceIte, ne_eq, and_self, or_self, reduceCtorEq, Option.some.injEq, Prod.mk.injEq]
    by_cases e1 : j = i
    · subst e1
      obtain ⟨g1, g2, g3, g4⟩ := h2 j (Nat.le_refl _)
      simp only [if_true]
      refine ⟨⟨1, by omega, by omega, by rw [g1]; rfl⟩, ?_⟩
      rw [if_pos g2]
      exact ⟨hh, hh, by omega⟩
    · obtain ⟨⟨t, t1, t2, t3⟩, h4, h5, h6⟩ := h1 j (by omega)
      simp only [e1, if_false]
      exact ⟨⟨t, t1, by omega, t3⟩, h4, h5, h6⟩
  · rw [hp, hi] at hj
    obtain ⟨g1, g2, g3, g4⟩ := h2 j (by omega)
    rw [e, vI_send _ _ (by decide), vI_send _ _ (by decide), vN_send, vJ_send, vI_page, vI_page, vN_page, vJ_page, fn_putA]
    simp only [ev_rd, ev_st, aEl, z_w, z_cat, Nat.reduceMod, Nat.reduceDiv, Nat.reduceLeDiff, Nat.reduceLT, Nat.reduceAdd, Nat.reduceMul, Nat.reduceSub, Nat.reduceEqDiff, Int32.reduceLT, Int32.reduceLE, Int32.reduceAdd, Int32.reduceSub, Int32.reduceMul, true_and, and_true, false_and, and_false, true_or, or_true, false_or, or_false, not_true_eq_false, not_false_eq_true, if_true, if_false, reduceIte, ne_eq, and_self, or_self, reduceCtorEq, Option.some.injEq, Prod.mk.injEq, show ¬ j = i by omega]
    exact ⟨g1, g2, g3, g4⟩
theorem V_ask {n : Nat} {A : w_A} (h : z_VW n A) (hn : n + 1 < 2147483647) (x : Int32) : z_VW (n + 1) (fn_cAsk A x).1 := by
  have hB := h.1.1.1.1
  have hb := hB.1
  unfold fn_cAsk
  split
  · exact V_mono (by omega) h
  rename_i hx
  obtain ⟨s, hs, rfl, hxs⟩ := ix_of (n := vN A 2 0) (by omega) (fun g => hx (.inl g)) (Classical.not_not.mp fun g => hx (.inr g))
  rw [hxs]
  have hS := h.1.2.2.1 s hs
  split
  · exact V_mono (by omega) h
  · rename_i b hby
    have hus := aby_us hby
    have hbl := aby_lt hby hS.2.2.2.1 hb.1
    split
    · exact V_mono (by omega) h
    rename_i h64
    have hBq := B_qnew hB hs (by omega)
    have f1 : z_fr (fn_qnew A s) (fn_put (fn_qnew A s) (vN A 3 0) b) := fr_put _ _ _
    have hQ := h.1.1.1.2.2
    have hC : z_C (n + 1) (fn_put (fn_qnew A s) (vN A 3 0) b) := by
      refine ⟨⟨put_B hBq _ (by omega), put_LK (show z_LK (fn_qnew A s) from h.1.1.1.2.1) _ _, put_QIn (D := fn_qnew A s) (fun j hj => hQ.1 j hj) (fun j hj => hQ.2 j hj) hBq (by omega) rfl⟩, sm_lk (put_sm _ _ _) (fun p => put_I _ _ _ (by decide) (by decide) (by decide) (by decide) p) (show z_lk (fn_qnew A s) from h.1.1.2.1), pp_put (show z_pp (fn_qnew A s) from h.1.1.2.2) _ (show fn_up (fn_qnew A s) b from hus.1)⟩
    have hst : z_st (fn_qnew A s) := h.1.2.2
    have htm : z_tm (fn_qnew A s) := h.1.2.1
    have hW : z_W (n + 1) (fn_put (fn_qnew A s) (vN A 3 0) b) := And.intro hC (And.intro (fr_tm f1 htm) (fr_st f1 hst))
    have hP : vP (fn_put (fn_qnew A s) (vN A 3 0) b) = none := f1.2.2.1.trans h.2.2
    have hZ : z_ZR (fn_put (fn_qnew A s) (vN A 3 0) b) := by
      have z1 : z_fz A (fn_qnew A s) := fz_L (fz_L (fz_L (fz_N (fz_refl A) _ _ (by decide) (fun h => absurd h (by decide))) _ _ _) _ _ _) _ _ _
      have a1 : z_fa A (fn_qnew A s) := fa_L (fa_L (fa_L (fa_N (fa_refl A) _ _ (by decide)) _ _ _) _ _ _) _ _ _
      exact ZR_of h.2.1 (fz_put z1 _ hbl) (fa_fr a1 f1)
    have hV : z_VW (n + 1) (fn_put (fn_qnew A s) (vN A 3 0) b) := And.intro hW (And.intro hZ hP)
    dsimp only
    exact hV
