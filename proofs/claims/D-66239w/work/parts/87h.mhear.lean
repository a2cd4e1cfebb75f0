/-! PART 87h (src 87h.mhear.src): what the twin does with a message of a peer that isn't up -/
set_option maxHeartbeats 800000
theorem isT_some {r : Nat → Int32} {P : w_P} {code : Int32} {l : List Int32} {q : w_Q} (h : fn_find (pN P) code = some q) : fn_isT r P code l = decide (fn_text r (pC P) q.2.1 q.2.2 = l) := by
  unfold fn_isT
  rw [h]
theorem some_of {α : Type} {o : Option α} (h : o.isSome = true) : ∃ x, o = some x := by
  cases o with
  | none => cases h
  | some x => exact ⟨x, rfl⟩
theorem mm_host {T σ : z_St} {A : w_A} (hM : w_M T σ A) {P : w_P} (hP : vP A = some P) (hr : z_rP (vI A 64) P) (hw : pW P = 0) : ∃ q, fn_find (pN P) 264 = some q ∧ gI σ 66060688 0 1 = Int32.ofNat q.2.1 ∧ gI σ 67109264 0 1 = Int32.ofNat q.2.2 ∧ q.2.1 + q.2.2 ≤ 600 := by
  obtain ⟨q, hq⟩ := some_of (rP_host hr hw).1
  have := (mm_key (rm_msg hM hP) (k := 1) (by decide)).2 q hq
  exact ⟨q, hq, this.1, this.2, (rP_txt hr (by decide) q hq).1⟩
/-- the twin: is a name the message's host -/
theorem mm_isPeer {T σ : z_St} {A : w_A} (hM : w_M T σ A) {P : w_P} (hP : vP A = some P) (hr : z_rP (vI A 64) P) (hw : pW P = 0) {n : Nat} (hB : z_B n A) {j : Nat} (hj : j < 4) {d : Nat} {x3 x4 : Int32} (h3 : x3 = Int32.ofNat (40 * j)) (h4 : x4 = Int32.ofNat (vL A 2 j).length) {Q : z_St → Option z_V → Prop} (q : Q σ (some (.inl (b2i (fn_isT (vI A 64) P 264 (vL A 2 j) = true))))) : wp (zD (d + 1) 119 [.inr (.inr (some (8, 0))), .inl 1, .inr (.inr (some (9442321, 0))), .inl x3, .inl x4] σ) Q := by
  obtain ⟨y, hy, g1, g2, g3⟩ := mm_host hM hP hr hw
  obtain ⟨hc1, hc8⟩ := rP_C hr
  have hG := (rm_G hM).2.2.2.2.1 j hj
  have hnm := (hB.2.2.2.2.2.2.2.2.1 j).1
  refine mw_isText (c := pC P) (k := 1) (l := vL A 2 j) hM (rm_msg hM hP).1 hc8 (by decide) g1 g2 g3 aty_9442321 hnm (by rw [alen_9442321]; omega) (by rw [alen_9442321]; decide) hG.2 rfl h3 h4 ?_
  rw [isT_some hy] at q
  have e : b2i (decide (fn_text (vI A 64) (pC P) y.2.1 y.2.2 = vL A 2 j) = true) = b2i (fn_text (vI A 64) (pC P) y.2.1 y.2.2 = vL A 2 j) := by
    by_cases h : fn_text (vI A 64) (pC P) y.2.1 y.2.2 = vL A 2 j
    · rw [b2i_t h, b2i_t (decide_eq_true h)]
    · rw [b2i_f h, b2i_f (by rw [decide_eq_false h]; decide)]
  rw [e] at q
  exact q
theorem ml_strange {T σ : z_St} {A : w_A} (hM : w_M T σ A) {P : w_P} (hP : vP A = some P) (hr : z_rP (vI A 64) P) (hw : pW P = 0) {c n : Nat} (hB : z_B n A) {d : Nat} {Q : z_St → Option z_V → Prop} (k : wp (E xP155 (zD (d + 8)) 12 [some (.inr (.inr (some (8, 0)))), some (.inl (Int32.ofNat c)), some (.inl (fn_ix (fn_last (vN A 0 0) fun k => fn_isT (vI A 64) P 264 (vL A 2 k)))), none] [] σ) Q) : ∀ (m j : Nat), j + m = vN A 0 0 →
    wp (E xP155 (zD (d + 8)) 7 [some (.inr (.inr (some (8, 0)))), some (.inl (Int32.ofNat c)), some (.inl (fn_ix (fn_last j fun k => fn_isT (vI A 64) P 264 (vL A 2 k)))), some (.inl (Int32.ofNat j))] [] σ) Q
  | 0, j, hj => by
    have hp4 := hB.1.1
    refine wp_eq (e155_7 ..) (wp_if (fun h => ?_) (fun h => ?_)) <;> rw [rm_PEERS hM, io_le (by omega) (by omega)] at h
    · rw [show j = vN A 0 0 by omega]
      exact k
    · omega
  | m + 1, j, hj => by
    have hp4 := hB.1.1
    have hj31 : j < 2147483648 := by omega
    have ih := ml_strange (d := d) hM hP hr hw hB k m (j + 1) (by omega)
    have hG := (rm_G hM).2.2.2.2.1 j (by omega)
    rw [last_s] at ih
    refine wp_eq (e155_7 ..) (wp_if (fun h => ?_) (fun h => ?_)) <;> rw [rm_PEERS hM, io_le (by omega) (by omega)] at h
    · omega
    · refine wp_eq (e155_8 ..) (wp_ar (rm_p9 hM) aty_10485904 alen_10485904 rfl (by omega) (by decide) ?_)
      dsimp only
      rw [io_nat hj31, hG.1, rm_p8 hM]
      refine wp_cr (mm_isPeer (d := d + 7) hM hP hr hw hB (j := j) (by omega) (io_mul 40 j) rfl ⟨_, rfl, wp_asI0 ?_⟩)
      refine wp_if (fun q => ?_) (fun q => ?_) <;> rw [b2i_0] at q
      · rw [if_neg q] at ih
        refine wp_eq (e155_10 ..) (wp_eq (e155_11 ..) ?_)
        rw [io_add_l]
        exact ih
      · rw [if_pos (Classical.not_not.mp q)] at ih
        refine wp_eq (e155_9 ..) (wp_eq (e155_11 ..) ?_)
        rw [io_add_l]
        exact ih
theorem mc_strange {T σ : z_St} {A : w_A} (hM : w_M T σ A) {P : w_P} (hP : vP A = some P) (hr : z_rP (vI A 64) P) {c n : Nat} (hI : z_I n A) (hlk : z_lk A) (hT : z_LT A) (hc1 : 1 ≤ c) (hc : c ≤ 8) (h0 : vN A 11 c = 0) (hn : n + 64 < 2147483648) {d : Nat} {Q : z_St → Option z_V → Prop} (k : ∀ σ, w_M T σ (fn_strange A c P) → Q σ none) : wp (zD (d + 9) 155 [.inr (.inr (some (8, 0))), .inl (Int32.ofNat c)] σ) Q := by
  have hB := hI.1
  have hp4 := hB.1.1
  have hm := rm_msg hM hP
  have hc0 : ¬ c = 0 := by omega
  have hc31 : c < 2147483648 := by omega
  unfold fn_strange at k
  have lost : ¬ (fn_req P ∧ pW P ≠ 0) → (¬ fn_req P ∨ pM P ≠ 257) → wp (E xP155 (zD (d + 8)) 3 [some (.inr (.inr (some (8, 0)))), some (.inl (Int32.ofNat c)), none, none] [] σ) Q := by
    intro h1 h2
    rw [if_neg h1, if_pos h2] at k
    refine wp_eq (e155_3 ..) ?_
    rw [rm_LOST hM]
    exact wp_swM (wm_LOST hM _) fun σ hM => wp_cv (mc_shut0 (d := d + 7) (c := c) hM (by omega) h0 fun σ hM => ⟨rfl, wp_ret (k σ hM)⟩)
  refine wp_eq (c155 ..) (wp_eq (e155_0 ..) (wp_cr (mw_isReq (d := d + 7) hm.2.1 ⟨_, rfl, wp_asI0 ?_⟩)))
  refine wp_if (fun q => ?_) (fun q => ?_) <;> rw [b2i_0] at q
  · exact lost (fun x => q x.1) (.inl q)
  have hreq : fn_req P := Classical.not_not.mp q
  have b4 : (pW P ≠ 0 ∨ pM P = 257) → wp (E xP155 (zD (d + 8)) 4 [some (.inr (.inr (some (8, 0)))), some (.inl (Int32.ofNat c)), none, none] [] σ) Q := by
    intro hwm
    refine wp_eq (e155_4 ..) ?_
    rw [hm.2.2.2.2.2.2.1]
    by_cases hw : pW P = 0
    rotate_left
    · rw [if_pos ⟨hreq, hw⟩] at k
      refine wp_if (fun q => absurd (rP_pos hr hw) (Int32.not_lt.mpr q)) (fun _ => ?_)
      refine wp_eq (e155_5 ..) (wp_cv (mc_refuse (d := d + 2) hM hc1 hc hP hr hB hreq rfl fun σ hM => ⟨rfl, ?_⟩))
      exact wp_cv (mc_shut0 (d := d + 7) (c := c) hM (by omega) (by unfold fn_refuse; rw [send_CPEER]; exact h0) fun σ hM => ⟨rfl, wp_ret (k σ hM)⟩)
    have h2 : pM P = 257 := hwm.resolve_left (fun g => g hw)
    rw [if_neg (fun g => g.2 hw), if_neg (fun q => q.elim (fun q => q hreq) (fun q => q h2))] at k
    rw [hw]
    refine wp_if (fun _ => ?_) (fun q => absurd (by decide) q)
    refine wp_eq (e155_6 ..) (ml_strange (d := d) hM hP hr hw hB ?_ (vN A 0 0) 0 (by omega))
    have plain : ∀ (res : Int32), 0 < res → ¬ res = 2001 → (∀ σ, w_M T σ (fn_close (fn_plain A c P res) c) → Q σ none) → ∀ a, wp (E xP155 (zD (d + 8)) 19 [some (.inr (.inr (some (8, 0)))), some (.inl (Int32.ofNat c)), some (.inl a), none] [.inl res] σ) Q := by
      intro res h0' h1' kk a
      refine wp_eq (e155_19 ..) (wp_if (fun h => absurd h0' (Int32.not_lt.mpr h)) (fun _ => ?_))
      refine wp_eq (e155_20 ..) (wp_cv (mc_plain (d := d + 2) hM hc1 hc hP hr hB rfl (fun g => h1' g.1) fun σ hM => ⟨rfl, ?_⟩))
      exact wp_cv (mc_shut0 (d := d + 7) (c := c) hM (by omega) (by unfold fn_plain; rw [send_CPEER]; exact h0) fun σ hM => ⟨rfl, wp_ret (kk σ hM)⟩)
    cases hp : fn_last (vN A 0 0) (fun k => fn_isT (vI A 64) P 264 (vL A 2 k)) with
    | none =>
      rw [hp] at k
      refine wp_eq (e155_12 ..) (wp_if (fun q => absurd q (by decide)) (fun _ => ?_))
      exact wp_eq (e155_13 ..) (plain 3010 (by decide) (by decide) k _)
    | some p =>
      rw [hp] at k
      have hpp : p < 4 := by have := (last_some hp).1; omega
      have hp31 : p < 2147483648 := by omega
      dsimp only at k
      refine wp_eq (e155_12 ..) (wp_if (fun _ => ?_) (fun q => absurd (io_pos hp31) q))
      refine wp_eq (e155_14 ..) ?_
      have h80 : gI σ 8 80 0 = b2i (fn_speaks (vI A 64) P = true) := (hm.2.2.2.2.2.2.2.2.2 hw).1
      rw [h80]
      refine wp_if (fun q => ?_) (fun q => ?_) <;> rw [b2i_0] at q
      · rw [if_pos (by simpa using q)] at k
        exact wp_eq (e155_15 ..) (plain 5010 (by decide) (by decide) k _)
      rw [if_neg (by simpa using q)] at k
      refine wp_eq (e155_16 ..) (wp_ar (rm_p11 hM) aty_12583056 alen_12583056 rfl (by omega) (by decide) ?_)
      refine wp_if (fun h3 => ?_) (fun h3 => ?_) <;> dsimp only at h3 <;> rw [show (fn_ix (some p)).toNatClampNeg = p from io_nat hp31, rm_ST hM] at h3
      rotate_left
      · rw [if_pos (Int32.not_le.mp h3)] at k
        exact wp_eq (e155_17 ..) (plain 3004 (by decide) (by decide) k _)
      rw [if_neg (Int32.not_lt.mpr h3)] at k
      refine wp_eq (e155_18 ..) (wp_eq (e155_19 ..) (wp_if (fun _ => ?_) (fun q => absurd (by decide) q)))
      rw [show fn_ix (some p) = Int32.ofNat p from rfl]
      refine wp_eq (e155_21 ..) (wp_ar (rm_p27 hM) aty_29360432 alen_29360432 rfl (by omega) (by decide) ?_)
      simp only [io_nat hc31, io_nat hp31]
      rw [io_add_l]
      refine wp_swM (wm_CPEER hM _ _) fun σ hM => (wp_ar (rm_p28 hM) aty_30409008 alen_30409008 rfl (by omega) (by decide) ?_)
      simp only [io_nat hc31, io_nat hp31]
      refine wp_swM (wm_CROLE hM _ _) fun σ hM => (wp_ar (rm_p14 hM) aty_15728784 alen_15728784 rfl (by omega) (by decide) ?_)
      simp only [io_nat hc31, io_nat hp31]
      refine wp_swM (wm_CAME hM _ _) fun σ hM => (wp_ar (rm_p23 hM) aty_25165968 alen_25165968 rfl (by omega) (by decide) ?_)
      have hm := rm_msg hM (P := P) hP
      simp only [io_nat hc31, io_nat hp31]
      rw [hm.2.1]
      refine wp_swM (wm_CFL hM _ _) fun σ hM => (wp_ar (rm_p24 hM) aty_26214544 alen_26214544 rfl (by omega) (by decide) ?_)
      have hm := rm_msg hM (P := P) hP
      simp only [io_nat hc31, io_nat hp31]
      rw [hm.2.2.2.2.1]
      refine wp_swM (wm_CHOP hM _ _) fun σ hM => (wp_ar (rm_p25 hM) aty_27263120 alen_27263120 rfl (by omega) (by decide) ?_)
      have hm := rm_msg hM (P := P) hP
      simp only [io_nat hc31, io_nat hp31]
      rw [hm.2.2.2.2.2.1]
      refine wp_swM (wm_CEND hM _ _) fun σ hM => (wp_ar (rm_p11 hM) aty_12583056 alen_12583056 rfl (by omega) (by decide) ?_)
      have hM : w_M T σ (sN (sN (sI (sI (sI (sI A 13 c 2) 8 p (pF P)) 9 p (pH P)) 10 p (pE P)) 11 c (p + 1)) 10 p c) := hM
      have hIp : z_Ip n p (sN (sN (sI (sI (sI (sI A 13 c 2) 8 p (pF P)) 9 p (pH P)) 10 p (pE P)) 11 c (p + 1)) 10 p c) :=
        Ip_CAME (Ip_CPEER (Ip_sI (Ip_sI (Ip_sI (Ip_sI (I_p hI p) (by decide) (by decide) (by decide) (by decide) (by decide) _ _) (by decide) (by decide) (by decide) (by decide) (by decide) _ _) (by decide) (by decide) (by decide) (by decide) (by decide) _ _) (by decide) (by decide) (by decide) (by decide) (by decide) _ _) c (by omega)) hc
      have hcam : ¬ vN (sN (sN (sI (sI (sI (sI A 13 c 2) 8 p (pF P)) 9 p (pH P)) 10 p (pE P)) 11 c (p + 1)) 10 p c) 10 p = 0 := by rw [vN_sN, if_pos ⟨rfl, rfl⟩]; exact hc0
      have hst : vI (sN (sN (sI (sI (sI (sI A 13 c 2) 8 p (pF P)) 9 p (pH P)) 10 p (pE P)) 11 c (p + 1)) 10 p c) 0 p = vI A 0 p := rfl
      have hown : vN (sN (sN (sI (sI (sI (sI A 13 c 2) 8 p (pF P)) 9 p (pH P)) 10 p (pE P)) 11 c (p + 1)) 10 p c) 9 p = vN A 9 p := rfl
      have hcp : ¬ vN A 9 p = c → vN (sN (sN (sI (sI (sI (sI A 13 c 2) 8 p (pF P)) 9 p (pH P)) 10 p (pE P)) 11 c (p + 1)) 10 p c) 11 (vN A 9 p) = vN A 11 (vN A 9 p) := by
        intro g
        simp only [ev_rd, ev_st, aEl, z_w, z_cat, Nat.reduceMod, Nat.reduceDiv, Nat.reduceLeDiff, Nat.reduceLT, Nat.reduceAdd, Nat.reduceMul, Nat.reduceSub, Nat.reduceEqDiff, Int32.reduceLT, Int32.reduceLE, Int32.reduceAdd, Int32.reduceSub, Int32.reduceMul, true_and, and_true, false_and, and_false, true_or, or_true, false_or, or_false, not_true_eq_false, not_false_eq_true, if_true, if_false, reduceIte, ne_eq, and_self, or_self, reduceCtorEq, Option.some.injEq, Prod.mk.injEq, vI_sI, vN_sN, g]
      have hcr : ¬ vN A 9 p = c → vI (sN (sN (sI (sI (sI (sI A 13 c 2) 8 p (pF P)) 9 p (pH P)) 10 p (pE P)) 11 c (p + 1)) 10 p c) 13 (vN A 9 p) = vI A 13 (vN A 9 p) := by
        intro g
        simp only [ev_rd, ev_st, aEl, z_w, z_cat, Nat.reduceMod, Nat.reduceDiv, Nat.reduceLeDiff, Nat.reduceLT, Nat.reduceAdd, Nat.reduceMul, Nat.reduceSub, Nat.reduceEqDiff, Int32.reduceLT, Int32.reduceLE, Int32.reduceAdd, Int32.reduceSub, Int32.reduceMul, true_and, and_true, false_and, and_false, true_or, or_true, false_or, or_false, not_true_eq_false, not_false_eq_true, if_true, if_false, reduceIte, ne_eq, and_self, or_self, reduceCtorEq, Option.some.injEq, Prod.mk.injEq, vI_sI, vN_sN, g]
      have hrst := (rm_ST hM p)
      rw [hst] at hrst
      generalize sN (sN (sI (sI (sI (sI A 13 c 2) 8 p (pF P)) 9 p (pH P)) 10 p (pE P)) 11 c (p + 1)) 10 p c = B at *
      refine wp_if (fun hz => ?_) (fun hz => ?_) <;> (dsimp only at hz; rw [hrst] at hz)
      · rw [if_pos hz] at k
        exact wp_eq (e155_22 ..) (wp_cv (mc_accepts (d := d) hM hpp hIp hcam hn fun σ hM => ⟨rfl, wp_eq (e155_26 ..) (wp_ret (k σ hM))⟩))
      rw [if_neg hz] at k
      refine wp_eq (e155_23 ..) (wp_ar (rm_p11 hM) aty_12583056 alen_12583056 rfl (by omega) (by decide) ?_)
      refine wp_if (fun h1 => ?_) (fun h1 => ?_) <;> (dsimp only at h1; rw [io_nat hp31, hrst] at h1)
      · rw [if_pos h1] at k
        exact wp_eq (e155_24 ..) (wp_cv (mc_become (d := d + 1) hM hpp hIp (fun q => absurd q (by decide)) (fun q => absurd q (by decide)) hn fun σ hM => ⟨rfl, wp_eq (e155_26 ..) (wp_ret (k σ hM))⟩))
      · rw [if_neg h1] at k
        have hk := hlk.1 p hpp
        have s2 : vI A 0 p = 2 := by
          rcases hk.2.2 with g | g | g | g | g | g | g | g
          · exact absurd g.1 hz
          · exact absurd g.1 h1
          · exact g.1
          all_goals (rw [g.1] at h3; exact absurd h3 (by decide))
        have hps := hk.2.2
        rw [s2] at hps
        have ho : ¬ vN A 9 p = 0 := by rcases hps with g | g | g | g | g | g | g | g <;> first | exact absurd g.1 (by decide) | exact g.2.1
        have hl := hk.1.1 ho
        have hoc : ¬ vN A 9 p = c := fun e => by have := hl.2.1; rw [e, h0] at this; omega
        exact wp_eq (e155_25 ..) (wp_cv (mc_choose (d := d) hM hpp hIp hcam (by rw [hown]; exact ho) (by rw [hown, hcp hoc]; exact hl.2.1) (by rw [hown, hcr hoc]; exact hl.2.2.1) hn fun σ hM => ⟨rfl, wp_eq (e155_26 ..) (wp_ret (k σ hM))⟩))
  refine wp_eq (e155_1 ..) ?_
  rw [hm.2.2.2.2.2.2.1]
  refine wp_if (fun hw => ?_) (fun hw => b4 (.inl hw))
  refine wp_eq (e155_2 ..) ?_
  rw [hm.2.2.1]
  exact wp_if (fun h => b4 (.inr h)) (fun h => lost (fun g => g.2 hw) (.inr h))
theorem n4_un4 (r : Nat → Int32) (c k : Nat) : n4 r c k = 2001 ↔ un4 r c k = 2001 := by
  have h1 := n4_nat r c k
  have h2 := un4_nat r c k
  constructor
  · intro h
    apply Int64.toBitVec_inj.mp
    apply BitVec.eq_of_toNat_eq
    rw [h2, ← h1, h]
    decide
  · intro h
    apply Int32.toBitVec_inj.mp
    apply BitVec.eq_of_toNat_eq
    rw [h1, ← h2, h]
    decide
theorem mm_res {T σ : z_St} {A : w_A} (hM : w_M T σ A) {P : w_P} (hP : vP A = some P) (hr : z_rP (vI A 64) P) (hw : pW P = 0) (hq : ¬ fn_req P) : ∃ q, fn_find (pN P) 268 = some q ∧ gI σ 66060688 0 7 = Int32.ofNat q.2.1 ∧ q.2.1 + 4 ≤ 600 := by
  obtain ⟨q, hq⟩ := some_of (rP_res hr hw hq)
  have := (mm_key (rm_msg hM hP) (k := 7) (by decide)).2 q hq
  exact ⟨q, hq, this.1, rP_num hr (by decide) q hq⟩
theorem mc_asking {T σ : z_St} {A : w_A} (hM : w_M T σ A) {P : w_P} (hP : vP A = some P) (hr : z_rP (vI A 64) P) {p c n : Nat} (hp : p < 4) (hI : z_I n A) (hlk : z_lk A) (hst : vI A 0 p = 2 ∨ vI A 0 p = 4) (hc1 : 1 ≤ c) (hc : c ≤ 8) (hoc : vN A 9 p = c) (hSc : z_Sc A c) (hoh : ¬ vI A 5 p = 0) (hn : n + 64 < 2147483648) {d : Nat} {Q : z_St → Option z_V → Prop} (k : ∀ σ, w_M T σ (fn_asking A p P) → Q σ none) : wp (zD (d + 10) 157 [.inr (.inr (some (8, 0))), .inl (Int32.ofNat c), .inl (Int32.ofNat p)] σ) Q := by
  have hB := hI.1
  have hm := rm_msg hM hP
  have hl := rP_len hr
  obtain ⟨hpc1, hpc8⟩ := rP_C hr
  have hc0 : ¬ c = 0 := by omega
  have hp31 : p < 2147483648 := by omega
  have hG := (rm_G hM).2.2.2.2.1 p hp
  unfold fn_asking at k
  have no : ¬ (fn_isA P 257 (vI A 5 p) ∧ fn_n (vI A 64) P 268 = 2001 ∧ fn_isT (vI A 64) P 264 (vL A 2 p) = true) → wp (E xP157 (zD (d + 9)) 5 [some (.inr (.inr (some (8, 0)))), some (.inl (Int32.ofNat c)), some (.inl (Int32.ofNat p)), none] [] σ) Q := by
    intro h
    rw [if_neg h, hoc] at k
    refine wp_eq (e157_5 ..) (wp_eq (e157_6 ..) (wp_if (fun _ => ?_) (fun q => absurd rfl q)))
    refine wp_eq (e157_7 ..) ?_
    rw [rm_LOST hM]
    exact wp_swM (wm_LOST hM _) fun σ hM => wp_cv (mc_drop (d := d) hM hc0 hc (I_lost hI) hSc hn fun σ hM => ⟨rfl, wp_ret (k σ hM)⟩)
  refine wp_eq (c157 ..) (wp_eq (e157_0 ..) (wp_ar (rm_p20 hM) aty_22020240 alen_22020240 rfl (by omega) (by decide) ?_))
  dsimp only
  rw [io_nat hp31, rm_OHOP hM]
  refine wp_cr (mc_ours (d := d + 7) hM hP ⟨_, rfl, wp_asI0 ?_⟩)
  refine wp_if (fun q => ?_) (fun q => ?_) <;> rw [b2i_0] at q
  · exact no fun x => q ⟨x.1.1, x.1.2.2.1, x.1.2.2.2.1⟩
  obtain ⟨q1, q2, q3⟩ := Classical.not_not.mp q
  refine wp_eq (e157_1 ..) ?_
  rw [hm.2.2.2.2.2.2.1]
  refine wp_if (fun hw => ?_) (fun hw => no fun x => hw x.1.2.1)
  have h1 : fn_isA P 257 (vI A 5 p) := ⟨q1, hw, q2, q3, hoh⟩
  obtain ⟨y, hy, g1, g2⟩ := mm_res hM hP hr hw q1
  have hnn : fn_n (vI A 64) P 268 = un4 (vI A 64) (pC P) y.2.1 := by unfold fn_n; rw [hy]
  refine wp_eq (e157_2 ..) (wp_ar (k := 7) (rm_p77 hM) aty_66060688 alen_66060688 rfl (by decide) (by decide) ?_)
  dsimp only
  rw [show (7 : Int32).toNatClampNeg = 7 from by decide, g1]
  refine wp_cr (mw_n4 (d := d + 7) (c := pC P) (k := y.2.1) hM hm.1 hpc8 g2 rfl ⟨_, rfl, wp_asI0 ?_⟩)
  refine wp_if (fun h2 => ?_) (fun h2 => ?_) <;> rw [n4_un4, ← hnn] at h2
  rotate_left
  · exact no fun x => h2 x.2.1
  refine wp_eq (e157_3 ..) (wp_ar (rm_p9 hM) aty_10485904 alen_10485904 rfl (by omega) (by decide) ?_)
  dsimp only
  rw [io_nat hp31, hG.1, rm_p8 hM]
  refine wp_cr (mm_isPeer (d := d + 8) hM hP hr hw hB hp (io_mul 40 p) rfl ⟨_, rfl, wp_asI0 ?_⟩)
  refine wp_if (fun q => ?_) (fun q => ?_) <;> rw [b2i_0] at q
  · exact no fun x => q x.2.2
  have h3 := Classical.not_not.mp q
  rw [if_pos ⟨h1, h2, h3⟩] at k
  have hk := hlk.1 p hp
  have k10 : ∀ σ, w_M T σ (fn_closeCame A p) → wp (E xP157 (zD (d + 9)) 10 [some (.inr (.inr (some (8, 0)))), none, some (.inl (Int32.ofNat p)), none] [] σ) Q := by
    intro σ hM
    refine wp_eq (e157_10 ..) (wp_cv (mc_become (d := d + 2) hM hp (Ip_closeCame (I_p hI p)) (fun q => absurd q (by decide)) (fun _ => ?_) hn fun σ hM => ⟨rfl, wp_ret (k σ hM)⟩))
    rw [closeCame_OWN, hoc]
    exact hc0
  refine wp_eq (e157_4 ..) (wp_eq (e157_6 ..) (wp_if (fun q => absurd q (by decide)) (fun _ => ?_)))
  refine wp_eq (e157_8 ..) (wp_ar (rm_p11 hM) aty_12583056 alen_12583056 rfl (by omega) (by decide) ?_)
  refine wp_if (fun h4 => ?_) (fun h4 => ?_) <;> (dsimp only at h4; rw [io_nat hp31, rm_ST hM] at h4)
  · have hps := hk.2.2
    rw [h4] at hps
    have hcz := (zps4 hps).2
    have hcl := hk.1.2.1 hcz
    refine wp_eq (e157_9 ..) (wp_ar (rm_p14 hM) aty_15728784 alen_15728784 rfl (by omega) (by decide) ?_)
    dsimp only
    rw [io_nat hp31, rm_CAME hM]
    exact wp_cv (mc_shutCame (d := d + 8) hM hp (by omega) hcz rfl hcl.2.1 hcl.2.2.1 fun σ hM => ⟨rfl, k10 σ hM⟩)
  · have s2 := hst.resolve_right h4
    have hps := hk.2.2
    rw [s2] at hps
    have hcz : vN A 10 p = 0 := by rcases hps with g | g | g | g | g | g | g | g <;> first | exact absurd g.1 (by decide) | exact g.2.2
    refine k10 σ ?_
    unfold fn_closeCame
    rw [if_pos hcz]
    exact hM
theorem mc_ending {T σ : z_St} {A : w_A} (hM : w_M T σ A) {P : w_P} (hP : vP A = some P) {p c n : Nat} (hp : p < 4) (hI : z_I n A) (hS : z_Sp A p) (heh : 0 ≤ vI A 7 p) (hn : n + 64 < 2147483648) {d : Nat} {x : Int32} {Q : z_St → Option z_V → Prop} (k : ∀ σ, w_M T σ (fn_ending A p P) → Q σ none) : wp (zD (d + 9) 158 [.inr (.inr (some (8, 0))), .inl x, .inl (Int32.ofNat p)] σ) Q := by
  have hm := rm_msg hM hP
  have hp31 : p < 2147483648 := by omega
  unfold fn_ending at k
  have no : ¬ fn_isA P 282 (vI A 7 p) → wp (E xP158 (zD (d + 8)) 4 [some (.inr (.inr (some (8, 0)))), none, none] [] σ) Q := by
    intro h
    rw [if_neg h] at k
    refine wp_eq (e158_4 ..) ?_
    rw [rm_LOST hM]
    exact wp_swM (wm_LOST hM _) fun σ hM => wp_eq (e158_5 ..) (wp_ret (k σ hM))
  refine wp_eq (c158 ..) (wp_eq (e158_0 ..) (wp_ar (rm_p22 hM) aty_24117392 alen_24117392 rfl (by omega) (by decide) ?_))
  dsimp only
  rw [io_nat hp31, rm_EHOP hM]
  refine wp_if (fun h => ?_) (fun h => ?_)
  · have h0 : vI A 7 p = 0 := Int32.le_antisymm h heh
    exact no fun q => q.2.2.2.2 h0
  have hne : vI A 7 p ≠ 0 := fun e => h (by rw [e]; decide)
  refine wp_eq (e158_1 ..) (wp_ar (rm_p22 hM) aty_24117392 alen_24117392 rfl (by omega) (by decide) ?_)
  dsimp only
  rw [io_nat hp31, rm_EHOP hM]
  refine wp_cr (mc_ours (d := d + 6) hM hP ⟨_, rfl, wp_asI0 ?_⟩)
  refine wp_if (fun q => ?_) (fun q => ?_) <;> rw [b2i_0] at q
  · exact no fun x => q ⟨x.1, x.2.2.1, x.2.2.2.1⟩
  obtain ⟨q1, q2, q3⟩ := Classical.not_not.mp q
  refine wp_eq (e158_2 ..) ?_
  rw [hm.2.2.2.2.2.2.1]
  refine wp_if (fun hw => ?_) (fun hw => no fun x => hw x.2.1)
  rw [if_pos ⟨q1, hw, q2, q3, hne⟩] at k
  exact wp_eq (e158_3 ..) (wp_cv (mc_dropAll (d := d) hM hp (I_p hI p) hS hn fun σ hM => ⟨rfl, wp_eq (e158_5 ..) (wp_ret (k σ hM))⟩))
/-- an answer to a question -/
theorem ml_askAns {T σ : z_St} {A : w_A} (hM : w_M T σ A) {P : w_P} (hP : vP A = some P) (hr : z_rP (vI A 64) P) {p c n : Nat} (hI : z_I n A) (hp : p < 4) (hc : c ≤ 8) (hcc : fn_conn A p = c) (hq1 : z_q1 A p) (hnr : ¬ fn_req P) {d : Nat} {Q : z_St → Option z_V → Prop} (k : ∀ σ, w_M T σ (fn_askAns A p P) → Q σ none) : ∀ (m j : Nat), j + m = vN A 3 0 → fn_first (vN A 3 0) (fun i => decide (vN A 12 i = p + 1 ∧ vJ A 4 i = 0 ∧ fn_isA P 258 (vI A 16 i))) = fn_from (fun i => decide (vN A 12 i = p + 1 ∧ vJ A 4 i = 0 ∧ fn_isA P 258 (vI A 16 i))) m j →
    wp (E xP161 (zD (d + 2)) 1 [some (.inr (.inr (some (8, 0)))), some (.inl (Int32.ofNat c)), some (.inl (Int32.ofNat p)), some (.inl (Int32.ofNat j)), none, none] [] σ) Q
  | 0, j, hj, hf => by
    have hb := hI.1.1
    unfold fn_askAns at k
    rw [hf] at k
    refine wp_eq (e161_1 ..) (wp_if (fun h => ?_) (fun h => ?_)) <;> rw [rm_ASKS hM, io_le (by omega) (by omega)] at h
    · refine wp_eq (e161_12 ..) ?_
      rw [rm_LOST hM]
      exact wp_swM (wm_LOST hM _) fun σ hM => wp_ret (k σ hM)
    · omega
  | m + 1, j, hj, hf => by
    have hb := hI.1.1
    have hm := rm_msg hM hP
    have hl := rP_len hr
    obtain ⟨hc1, hc8⟩ := rP_C hr
    have hj31 : j < 2147483648 := by omega
    have hqi := hI.2.2.1 j (by omega)
    have hqp := hI.1.2.2.2.2.1 j
    refine wp_eq (e161_1 ..) (wp_if (fun h => ?_) (fun h => ?_)) <;> rw [rm_ASKS hM, io_le (by omega) (by omega)] at h
    · omega
    refine wp_eq (e161_2 ..) ?_
    rw [hm.2.2.2.2.2.2.1]
    refine wp_if (fun hw => ?_) (fun hw => ?_)
    rotate_left
    · have hnone : fn_first (vN A 3 0) (fun i => decide (vN A 12 i = p + 1 ∧ vJ A 4 i = 0 ∧ fn_isA P 258 (vI A 16 i))) = none := by
        cases e : fn_first (vN A 3 0) (fun i => decide (vN A 12 i = p + 1 ∧ vJ A 4 i = 0 ∧ fn_isA P 258 (vI A 16 i))) with
        | none => rfl
        | some i => exact absurd (of_decide_eq_true (fn_first_some e).2).2.2.2.1 hw
      unfold fn_askAns at k
      rw [hnone] at k
      refine wp_eq (e161_12 ..) ?_
      rw [rm_LOST hM]
      exact wp_swM (wm_LOST hM _) fun σ hM => wp_ret (k σ hM)
    have next : ¬ (vN A 12 j = p + 1 ∧ vJ A 4 j = 0 ∧ fn_isA P 258 (vI A 16 j)) → wp (E xP161 (zD (d + 2)) 11 [some (.inr (.inr (some (8, 0)))), some (.inl (Int32.ofNat c)), some (.inl (Int32.ofNat p)), some (.inl (Int32.ofNat j)), none, none] [] σ) Q := by
      intro h
      rw [from_n (by simpa using h)] at hf
      refine wp_eq (e161_11 ..) ?_
      rw [io_add_l]
      exact ml_askAns hM hP hr hI hp hc hcc hq1 hnr k m (j + 1) (by omega) hf
    refine wp_eq (e161_3 ..) (wp_ar (rm_p53 hM) aty_52430867 alen_52430867 rfl (by omega) (by decide) ?_)
    dsimp only
    rw [io_nat hj31, rm_QRES hM]
    refine wp_if (fun h2 => ?_) (fun h2 => ?_) <;> rw [lg_eq] at h2
    rotate_left
    · exact next fun q => h2 q.2.1
    refine wp_eq (e161_4 ..) (wp_ar (rm_p58 hM) aty_57673744 alen_57673744 rfl (by omega) (by decide) ?_)
    dsimp only
    rw [io_nat hj31, rm_QCONN hM]
    refine wp_if (fun h4 => ?_) (fun h4 => ?_)
    rotate_left
    · refine next fun q => h4 ?_
      rw [(hq1 j h2 q.1).2, hcc]
    refine wp_eq (e161_5 ..) (wp_ar (rm_p54 hM) aty_53479440 alen_53479440 rfl (by omega) (by decide) ?_)
    dsimp only
    rw [io_nat hj31, rm_QPEER hM]
    refine wp_if (fun h1 => ?_) (fun h1 => ?_) <;> rw [io_inj (by omega) (by omega)] at h1
    rotate_left
    · exact next fun q => h1 (by omega)
    have h1 : vN A 12 j = p + 1 := by have := hqi.2.2.2; omega
    refine wp_eq (e161_6 ..) (wp_ar (rm_p56 hM) aty_55576592 alen_55576592 rfl (by omega) (by decide) ?_)
    dsimp only
    rw [io_nat hj31, rm_QHOP hM]
    refine wp_cr (mc_ours (d := d) hM hP ⟨_, rfl, wp_asI0 ?_⟩)
    refine wp_if (fun q => ?_) (fun q => ?_) <;> rw [b2i_0] at q
    · exact next fun x => q ⟨x.2.2.1, x.2.2.2.2.1, x.2.2.2.2.2.1⟩
    obtain ⟨q1, q2, q3⟩ := Classical.not_not.mp q
    rw [from_y (decide_eq_true ⟨h1, h2, q1, hw, q2, q3, hqi.2.2.1⟩)] at hf
    unfold fn_askAns at k
    rw [hf] at k
    dsimp only at k
    obtain ⟨y, hy, g1, g2⟩ := mm_res hM hP hr hw q1
    have hnn : fn_n (vI A 64) P 268 = un4 (vI A 64) (pC P) y.2.1 := by unfold fn_n; rw [hy]
    refine wp_eq (e161_7 ..) (wp_ar (k := 7) (rm_p77 hM) aty_66060688 alen_66060688 rfl (by decide) (by decide) ?_)
    dsimp only
    rw [show (7 : Int32).toNatClampNeg = 7 from by decide, g1]
    refine wp_cr (mw_n4 (d := d) (c := pC P) (k := y.2.1) hM hm.1 hc8 g2 rfl ⟨_, rfl, wp_asI0 ?_⟩)
    rw [show (n4 (vI A 64) (pC P) y.2.1).toInt64 &&& 4294967295 = fn_n (vI A 64) P 268 from hnn.symm]
    have h0 : (fn_n (vI A 64) P 268 = 0) = (fn_n (vI A 64) P 268 < 1) := by
      rw [hnn]
      have hu := un4_int (vI A 64) (pC P) y.2.1
      rw [Int64.lt_iff_toInt_lt, ← Int64.toInt_inj, show (1 : Int64).toInt = 1 from rfl, show (0 : Int64).toInt = 0 from rfl]
      exact propext ⟨fun h => by omega, fun h => by omega⟩
    have k10 : ∀ v, v = (if fn_n (vI A 64) P 268 < 1 then 1 else fn_n (vI A 64) P 268) → wp (E xP161 (zD (d + 2)) 10 [none, none, none, none, none, none] [.inr (.inl v), .inl (Int32.ofNat j), .inr (.inr (gR σ 8 53 0))] σ) Q := by
      rintro v rfl
      refine wp_eq (e161_10 ..) (wp_ar (rm_p53 hM) aty_52430867 alen_52430867 rfl (by omega) (by decide) ?_)
      simp only [io_nat hj31]
      exact wp_swM (wm_QRES hM _ _) fun σ hM => wp_ret (k σ hM)
    refine wp_if (fun h5 => ?_) (fun h5 => ?_) <;> rw [lg_eq, h0] at h5
    · exact wp_eq (e161_8 ..) (k10 1 (by rw [if_pos h5]))
    · exact wp_eq (e161_9 ..) (k10 _ (by rw [if_neg h5]))
theorem mc_askAns {T σ : z_St} {A : w_A} (hM : w_M T σ A) {P : w_P} (hP : vP A = some P) (hr : z_rP (vI A 64) P) {p c n : Nat} (hI : z_I n A) (hp : p < 4) (hc : c ≤ 8) (hcc : fn_conn A p = c) (hq1 : z_q1 A p) (hnr : ¬ fn_req P) {d : Nat} {Q : z_St → Option z_V → Prop} (k : ∀ σ, w_M T σ (fn_askAns A p P) → Q σ none) : wp (zD (d + 3) 161 [.inr (.inr (some (8, 0))), .inl (Int32.ofNat c), .inl (Int32.ofNat p)] σ) Q :=
  wp_eq (c161 ..) (wp_eq (e161_0 ..) (ml_askAns hM hP hr hI hp hc hcc hq1 hnr k (vN A 3 0) 0 (by omega) (fn_first_from _ _)))
