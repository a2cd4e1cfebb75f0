/-! PART 89b (src 89b.mfeed.src): the twin hears a message; feeds -/
set_option maxHeartbeats 800000
theorem wm_P0 {T σ : z_St} {A : w_A} (h : w_M T σ A) : w_M T σ (sP A none) := by
  obtain ⟨hT, hA, hB, hC, hD, hG, hH, hI, hJ, hK, hL, hM, hN⟩ := h
  exact ⟨hT, hA, hB, hC, hD, hG, hH, hI, hJ, hK, hL, fun P e => (by cases e), hN⟩
theorem mc_hear {T σ : z_St} {A : w_A} (hM : w_M T σ A) (hP : vP A = none) {n c m : Nat} (hW : z_W n A) (hn : n + 64 < 2147483648) (hc1 : 1 ≤ c) (hc : c ≤ 8) (h2 : vI A 12 c = 2) (h20 : 20 ≤ m) (h600 : m ≤ 600) (hnl : n3 (vI A 64) c 1 = Int32.ofNat m) {d : Nat} {Q : z_St → Option z_V → Prop} (k : ∀ σ, w_M T σ (fn_hear (sP A (some (fn_read (vI A 64) c m))) c (fn_read (vI A 64) c m)) → Q σ none) : wp (zD (d + 11) 154 [.inr (.inr (some (8, 0))), .inl (Int32.ofNat c)] σ) Q := by
  have hc31 : c < 2147483648 := by omega
  refine wp_eq (c154 ..) (wp_eq (e154_0 ..) (wp_cv (mw_look (d := d + 5) hM hP hc h20 h600 hnl rfl fun σ hM => ⟨rfl, ?_⟩)))
  have hr : z_rP (vI A 64) (fn_read (vI A 64) c m) := ⟨c, m, hc1, hc, h20, h600, rfl⟩
  generalize fn_read (vI A 64) c m = P at *
  have hP2 : vP (sP A (some P)) = some P := rfl
  have hW2 : z_W n (sP A (some P)) := W_P hW _
  have hr2 : z_rP (vI (sP A (some P)) 64) P := hr
  have h22 : vI (sP A (some P)) 12 c = 2 := h2
  generalize sP A (some P) = B at *
  clear hW hr h2 hP hnl
  have hI := hW2.1.1
  have hcp := hI.1.2.2.2.1 c
  have k10 : ∀ σ, Q σ none → wp (E xP154 (zD (d + 10)) 10 [none, none, none] [] σ) Q := fun σ q => wp_eq (e154_10 ..) (wp_ret q)
  unfold fn_hear at k
  refine (wp_ar (rm_p27 hM) aty_29360432 alen_29360432 rfl (by omega) (by decide) ?_)
  dsimp only
  rw [io_nat hc31, rm_CPEER hM]
  by_cases hz : vN B 11 c = 0
  · rw [if_pos hz] at k
    rw [hz]
    refine wp_if (fun q => absurd q (by decide)) (fun _ => ?_)
    exact wp_eq (e154_1 ..) (wp_cv (mc_strange (d := d + 1) hM hP2 hr2 hI hW2.1.2.1 hW2.2.2.2.2.2.2.2.1 hc1 hc hz hn fun σ hM => ⟨rfl, k10 σ (k σ hM)⟩))
  rw [if_neg hz] at k
  obtain ⟨hp, hpp⟩ := peer_lt hW2 hc1 hc hz
  dsimp only at k
  rw [show (1 : Int32) = Int32.ofNat 1 from rfl, io_sub (show 1 ≤ vN B 11 c by omega)]
  have hck := hW2.1.2.1.2 c hc1 hc
  generalize hpe : vN B 11 c - 1 = p at *
  have hp31 : p < 2147483648 := by omega
  have hk := hW2.1.2.1.1 p hp
  have hrole : (vI B 13 c = 1 ∧ vN B 9 p = c) ∨ (vI B 13 c = 2 ∧ vN B 10 p = c) := by
    rcases hck with g | ⟨q, hq, g1, g2⟩
    · exact absurd g.1 hz
    · have : q = p := by omega
      subst this
      exact g2
  refine wp_if (fun _ => ?_) (fun q => absurd (io_pos hp31) q)
  refine wp_eq (e154_2 ..) (wp_ar (rm_p11 hM) aty_12583056 alen_12583056 rfl (by omega) (by decide) ?_)
  refine wp_if (fun h7 => ?_) (fun h7 => ?_) <;> (dsimp only at h7; rw [io_nat hp31, rm_ST hM] at h7)
  · rw [if_neg (up_not h7 (by decide) (by decide)), if_pos h7] at k
    exact wp_eq (e154_3 ..) (wp_cv (mc_ending (d := d + 1) (c := c) hM hP2 hp hI (C_Sp hW2.1 hp) (hW2.1.2.2.2.2.1 p) hn fun σ hM => ⟨rfl, k10 σ (k σ hM)⟩))
  have up : fn_up B p → wp (E xP154 (zD (d + 10)) 6 [some (.inr (.inr (some (8, 0)))), some (.inl (Int32.ofNat c)), some (.inl (Int32.ofNat p))] [] σ) Q := by
    intro hu
    rw [if_pos hu] at k
    have hcc : fn_conn B p = c := by
      have hps := hk.2.2
      unfold fn_conn
      rcases hu with s | s <;> rw [s] at hps
      · have ho : vN B 9 p = 0 := by rcases hps with g | g | g | g | g | g | g | g <;> first | exact absurd g.1 (by decide) | exact g.2.1
        rcases hrole with g | g
        · omega
        · rw [s, g.2, if_neg (fun q => q.elim (fun q => absurd q (by decide)) (fun q => by omega))]
      · have ho : vN B 10 p = 0 := by rcases hps with g | g | g | g | g | g | g | g <;> first | exact absurd g.1 (by decide) | exact g.2.2
        rcases hrole with g | g
        · have hn0 : ¬ c = 0 := by omega
          simp only [s, ho, g.2, ev_rd, ev_st, aEl, z_w, z_cat, Nat.reduceMod, Nat.reduceDiv, Nat.reduceLeDiff, Nat.reduceLT, Nat.reduceAdd, Nat.reduceMul, Nat.reduceSub, Nat.reduceEqDiff, Int32.reduceLT, Int32.reduceLE, Int32.reduceAdd, Int32.reduceSub, Int32.reduceMul, true_and, and_true, false_and, and_false, true_or, or_true, false_or, or_false, not_true_eq_false, not_false_eq_true, if_true, if_false, reduceIte, ne_eq, and_self, or_self, reduceCtorEq, Option.some.injEq, Prod.mk.injEq] <;> rfl
        · omega
    exact wp_eq (e154_6 ..) (wp_cv (mc_heard (d := d) hM hP2 hr2 hW2 hn hp hpp hu hcc hc1 hc fun σ hM => ⟨rfl, k10 σ (k σ hM)⟩))
  refine wp_eq (e154_4 ..) (wp_ar (rm_p11 hM) aty_12583056 alen_12583056 rfl (by omega) (by decide) ?_)
  refine wp_if (fun h5 => ?_) (fun h5 => ?_) <;> (dsimp only at h5; rw [io_nat hp31, rm_ST hM] at h5)
  · exact up (.inl h5)
  refine wp_eq (e154_5 ..) (wp_ar (rm_p11 hM) aty_12583056 alen_12583056 rfl (by omega) (by decide) ?_)
  refine wp_if (fun h6 => ?_) (fun h6 => ?_) <;> (dsimp only at h6; rw [io_nat hp31, rm_ST hM] at h6)
  · exact up (.inr h6)
  rw [if_neg (show ¬ fn_up B p from fun g => g.elim h5 h6), if_neg h7] at k
  refine wp_eq (e154_7 ..) (wp_ar (rm_p28 hM) aty_30409008 alen_30409008 rfl (by omega) (by decide) ?_)
  refine wp_if (fun hr1 => ?_) (fun hr1 => ?_) <;> (dsimp only at hr1; rw [io_nat hc31, rm_CROLE hM] at hr1)
  · rw [if_neg (fun g => by rw [hr1] at g; exact absurd g.2 (by decide))] at k
    refine wp_eq (e154_8 ..) ?_
    rw [rm_LOST hM]
    exact wp_swM (wm_LOST hM _) fun σ hM => k10 σ (k σ hM)
  obtain ⟨r1, ro⟩ := hrole.resolve_right (fun g => hr1 g.1)
  have hs24 : vI B 0 p = 2 ∨ vI B 0 p = 4 := by
    have hps := hk.2.2
    have hpc := hk.2.1 (by omega)
    rw [ro, h22] at hpc
    rcases hps with g | g | g | g | g | g | g | g
    · omega
    · exact absurd (hpc.mpr (.inl g.1)) (by decide)
    · exact .inl g.1
    · exact absurd (hpc.mpr (.inr g.1)) (by decide)
    · exact .inr g.1
    · exact absurd g.1 h5
    · exact absurd g.1 h6
    · exact absurd g.1 h7
  rw [if_pos ⟨hs24, r1⟩] at k
  exact wp_eq (e154_9 ..) (wp_cv (mc_asking (d := d) hM hP2 hr2 hp hI hW2.1.2.1 hs24 hc1 hc ro (W_Sc hW2 hc1 hc) ((hW2.1.2.2.2.2.2 p).1 hs24) hn fun σ hM => ⟨rfl, k10 σ (k σ hM)⟩))
