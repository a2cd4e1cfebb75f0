/-! PART 88g (src 88g.mkeep.src): the twin drops stale answers, keeps new ones -/
set_option maxHeartbeats 800000
theorem wm_K0 {T σ σ' : z_St} {A : w_A} (hM : w_M T σ A) (h5 : z_o5 σ σ') (h59 : gI σ' 8 59 0 = Int32.ofNat (vN A 4 0)) (hk : ∀ s, s < vN A 4 0 → zk σ' A s s) : w_M T σ' A := by
  have hm : m_K σ' A := fun s hs => hk s hs
  rw [o5_row h5] at hm ⊢
  rw [h59] at hm ⊢
  obtain ⟨hT, hA, hB, hC, hD, hG, hH, hI, hJ, hK, hL, hM, hN⟩ := hM
  exact ⟨m_T_wI (m_T_rI (m_T_rI (m_T_rI (m_T_rI (m_T_rI hT (z_isM_yes _ rfl)) (z_isM_yes _ rfl)) (z_isM_yes _ rfl)) (z_isM_yes _ rfl)) (z_isM_yes _ rfl)) (.inl rfl), hA, hB, ⟨hC.1, hC.2.1, hC.2.2.1, hC.2.2.2.1, rfl, hC.2.2.2.2.2⟩, hD, hG, hH, hI, hJ, hm, hL, hM, hN⟩
theorem zk_ag {σ σ' : z_St} {A : w_A} {s k : Nat} (h : zk σ A s k) (ho : zk_ok A k) (e1 : gI σ' 61867056 0 s = gI σ 61867056 0 s) (e2 : gI σ' 62915632 0 s = gI σ 62915632 0 s) (e3 : ∀ i, 41 * s ≤ i → i < 41 * s + 41 → gI σ' 60860721 0 i = gI σ 60860721 0 i) (e4 : gI σ' 59769904 0 s = gI σ 59769904 0 s) (e5 : ∀ i, 320 * s ≤ i → i < 320 * s + 320 → gI σ' 59058193 0 i = gI σ 59058193 0 i) : zk σ' A s k := by
  obtain ⟨h1, h2, h3, h4, h5⟩ := h
  obtain ⟨o1, o2, o3⟩ := ho
  have o1 := o1.1
  refine ⟨e1.trans h1, e2.trans h2, ⟨?_, fun i hi => ?_⟩, e4.trans h4, fun i hi hn => ?_⟩
  · rw [e3 _ (by omega) (by omega)]; exact h3.1
  · rw [e3 _ (by omega) (by omega)]; exact h3.2 i hi
  · rw [e5 _ (by omega) (by omega)]; exact h5 i hi hn
theorem K_ok {n : Nat} {A : w_A} (hB : z_B n A) {k : Nat} (hk : k < vN A 4 0) : zk_ok A k := by
  have := hB.2.2.2.2.2.2.2.2.2.2.2.1 k hk
  exact ⟨this.1, this.2.1, this.2.2.2⟩
theorem mc_oldest {T σ : z_St} {A : w_A} (hM : w_M T σ A) {n : Nat} (hB : z_B n A) (h0 : 0 < vN A 4 0) {d : Nat} {Q : z_St → Option z_V → Prop} (k : ∀ σ, w_M T σ (fn_drop1 A) → Q σ none) : wp (zD (d + 2) 151 [.inr (.inr (some (8, 0)))] σ) Q := by
  have hb := hB.1
  refine wp_eq (c151 ..) (wp_eq (e151_0 ..) (ml_oldest (σ0 := σ) (A := A) (n := vN A 4 0) (by omega) (by omega) (fun k hk => K_ok hB hk) (rm_p60 hM) (rm_p61 hM) (rm_p62 hM) (rm_p63 hM) (rm_p64 hM) (fun σ' h5 h59 hr => k σ' ?_) (vN A 4 0 - 1) 0 σ (by omega) (o5_rf σ) (rm_KEPTS hM) (fun s hs => absurd hs (by omega)) (fun s _ hs => (rm_K hM) s hs)))
  refine wm_K hM h5 h59 (fn_out (vN A 4 0) 0 (vI A 18)) (fn_out (vN A 4 0) 0 (vN A 15)) (fn_rot (vN A 4 0) 0 (vN A 18)) (fn_out (vN A 4 0) 0 (vL A 11)) (fn_out (vN A 4 0) 0 (vL A 10)) (fun s hs => ?_)
  have := hr s hs
  have eo : ∀ {α : Type} (r : Nat → α), fn_out (vN A 4 0) 0 r s = r (s + 1) := fun r => by unfold fn_out; rw [if_pos (by omega)]
  show gI σ' 61867056 0 s = fn_out (vN A 4 0) 0 (vI A 18) s ∧ gI σ' 62915632 0 s = Int32.ofNat (fn_out (vN A 4 0) 0 (vN A 15) s + 240) ∧ m_nm σ' 60860721 (41 * s) (fn_out (vN A 4 0) 0 (vL A 11) s) ∧ gI σ' 59769904 0 s = Int32.ofNat (fn_out (vN A 4 0) 0 (vL A 10) s).length ∧ ∀ j, (h : j < (fn_out (vN A 4 0) 0 (vL A 10) s).length) → ¬ (1 ≤ j ∧ j ≤ 3) → gI σ' 59058193 0 (320 * s + j) = (fn_out (vN A 4 0) 0 (vL A 10) s)[j]
  simp only [eo]
  exact this
theorem ml_stale {T : z_St} {d n : Nat} {Q : z_St → Option z_V → Prop} : ∀ (f : Nat) (A : w_A) (σ : z_St), vN A 4 0 = f → w_M T σ A → z_B n A → z_KT A → (∀ σ, w_M T σ (fn_stl A f) → Q σ none) → wp (E xP150 (zD (d + 2)) 0 [some (.inr (.inr (some (8, 0))))] [] σ) Q
  | 0, A, σ, hf, hM, hB, hT, k => by
    refine wp_eq (e150_0 ..) ?_
    rw [rm_KEPTS hM, hf]
    exact wp_if (fun _ => wp_eq (e150_3 ..) (wp_ret (k σ hM))) (fun q => absurd (by decide) q)
  | f + 1, A, σ, hf, hM, hB, hT, k => by
    have hb := hB.1
    have ht := hT 0 (by omega)
    have hK := (rm_K hM) 0 (by omega)
    refine wp_eq (e150_0 ..) ?_
    rw [rm_KEPTS hM, hf]
    refine wp_if (fun h => ?_) (fun _ => ?_)
    · rw [io_le_l (by omega) (by decide)] at h
      have h : f + 1 ≤ 0 := h
      omega
    unfold fn_stl at k
    refine wp_eq (e150_1 ..) (wp_ar (k := 0) (rm_p64 hM) aty_62915632 alen_62915632 rfl (by decide) (by decide) ?_)
    dsimp only
    rw [show (0 : Int32).toNatClampNeg = 0 from by decide, hK.2.1, rm_NOW hM]
    refine wp_if (fun h => ?_) (fun h => ?_) <;> rw [io_lt (by omega) (by omega)] at h
    · rw [if_neg (by omega)] at k
      exact wp_eq (e150_3 ..) (wp_ret (k σ hM))
    · rw [if_pos (by omega)] at k
      refine wp_eq (e150_2 ..) (wp_cv (mc_oldest (d := d) hM hB (by omega) fun σ hM => ⟨rfl, ?_⟩))
      exact ml_stale f (fn_drop1 A) σ (by rw [drop1_KEPTS]; omega) hM (drop1_B hB) (drop1_KT hT) k
theorem mc_stale {T σ : z_St} {A : w_A} (hM : w_M T σ A) {n : Nat} (hB : z_B n A) (hT : z_KT A) {d : Nat} {Q : z_St → Option z_V → Prop} (k : ∀ σ, w_M T σ (fn_stale A) → Q σ none) : wp (zD (d + 3) 150 [.inr (.inr (some (8, 0)))] σ) Q :=
  wp_eq (c150 ..) (ml_stale (vN A 4 0) A σ rfl hM hB hT k)
theorem ml_keep {σ : z_St} {d n L : Nat} (hn : n ≤ 32) (hL : L ≤ 300) (h59 : gI σ 8 59 0 = Int32.ofNat n) (h66 : gI σ 8 66 0 = Int32.ofNat L) (hp : gR σ 8 60 0 = some (59058193, 0)) (hp2 : gR σ 8 65 0 = some (63985553, 0)) {Q : z_St → Option z_V → Prop} (k : wp (E xP152 (zD (d + 2)) 3 [some (.inr (.inr (some (8, 0)))), none] [] (rI σ 59058193 0 (fn_cp (gI σ 63985553 0) 0 (320 * n) (gI σ 59058193 0) L))) Q) : ∀ (m j : Nat), j + m = L →
    wp (E xP152 (zD (d + 2)) 1 [some (.inr (.inr (some (8, 0)))), some (.inl (Int32.ofNat j))] [] (rI σ 59058193 0 (fn_cp (gI σ 63985553 0) 0 (320 * n) (gI σ 59058193 0) j))) Q
  | 0, j, hj => by
    have e66 : gI (rI σ 59058193 0 (fn_cp (gI σ 63985553 0) 0 (320 * n) (gI σ 59058193 0) j)) 8 66 0 = Int32.ofNat L := h66
    have : j = L := by omega
    subst this
    refine wp_eq (e152_1 ..) ?_
    rw [e66]
    exact wp_if (fun _ => k) (fun h => by rw [io_le (by omega) (by omega)] at h; omega)
  | m + 1, j, hj => by
    have e66 : gI (rI σ 59058193 0 (fn_cp (gI σ 63985553 0) 0 (320 * n) (gI σ 59058193 0) j)) 8 66 0 = Int32.ofNat L := h66
    have e59 : gI (rI σ 59058193 0 (fn_cp (gI σ 63985553 0) 0 (320 * n) (gI σ 59058193 0) j)) 8 59 0 = Int32.ofNat n := h59
    have er : gI (rI σ 59058193 0 (fn_cp (gI σ 63985553 0) 0 (320 * n) (gI σ 59058193 0) j)) 63985553 0 j = gI σ 63985553 0 (0 + j) := by rw [hI_rI, if_neg (fun q => absurd q.1 (by decide)), Nat.zero_add]
    have ei : (320 : Int32) * Int32.ofNat n + Int32.ofNat j = Int32.ofNat (320 * n + j) := by rw [show (320 : Int32) * Int32.ofNat n = Int32.ofNat (320 * n) from io_mul 320 n, io_add]
    refine wp_eq (e152_1 ..) ?_
    rw [e66]
    refine wp_if (fun h => by rw [io_le (by omega) (by omega)] at h; omega) (fun _ => ?_)
    refine wp_eq (e152_2 ..) (wp_ar (k := j) hp2 aty_63985553 alen_63985553 rfl (by omega) (by decide) ?_)
    simp only [e59, ei]
    refine (wp_ar (k := 320 * n + j) hp aty_59058193 alen_59058193 rfl (by omega) (by decide) ?_)
    rw [io_nat (by omega), io_nat (by omega), nb_un, io_add_l]
    dsimp only
    rw [er, wI_rI, cp_s]
    exact wp_sw (ml_keep hn hL h59 h66 hp hp2 k m (j + 1) (by omega))
theorem keep_fK (A : w_A) (P : w_P) : fn_keep A P = z_fK A (vN (fn_keep A P) 4 0) (vI (fn_keep A P) 18) (vN (fn_keep A P) 15) (vN (fn_keep A P) 18) (vL (fn_keep A P) 11) (vL (fn_keep A P) 10) := by
  have hK : ∀ i, ¬ i = 0 → vN (fn_keep A P) 4 i = vN A 4 i := by
    intro i hi
    unfold fn_keep
    dsimp only
    rw [vN_sN, if_neg (fun q => hi q.2)]
    split
    · show vN (fn_drop1 A) 4 i = _
      unfold fn_drop1
      dsimp only
      rw [vN_sN, if_neg (fun q => hi q.2)]
      rfl
    · rfl
  refine A_ext (fun v i => ?_) (fun v i => ?_) (fun v i => ?_) (fun v i => ?_) ?_
  · by_cases h : v = 18
    · subst h; rfl
    · rw [keep_I A P h]
      unfold z_fK
      simp only [ev_rd, ev_st, aEl, z_w, z_cat, Nat.reduceMod, Nat.reduceDiv, Nat.reduceLeDiff, Nat.reduceLT, Nat.reduceAdd, Nat.reduceMul, Nat.reduceSub, Nat.reduceEqDiff, Int32.reduceLT, Int32.reduceLE, Int32.reduceAdd, Int32.reduceSub, Int32.reduceMul, true_and, and_true, false_and, and_false, true_or, or_true, false_or, or_false, not_true_eq_false, not_false_eq_true, if_true, if_false, reduceIte, ne_eq, and_self, or_self, reduceCtorEq, Option.some.injEq, Prod.mk.injEq, vI_tI, h]
  · rw [keep_J]
    rfl
  · by_cases h : v = 15
    · subst h; rfl
    by_cases h2 : v = 18
    · subst h2; rfl
    by_cases h3 : v = 4
    · subst h3
      by_cases hi : i = 0
      · subst hi; rfl
      · rw [hK i hi]
        unfold z_fK
        rw [vN_sN, if_neg (fun q => hi q.2)]
        rfl
    · rw [keep_N A P h3 h h2]
      unfold z_fK
      simp only [ev_rd, ev_st, aEl, z_w, z_cat, Nat.reduceMod, Nat.reduceDiv, Nat.reduceLeDiff, Nat.reduceLT, Nat.reduceAdd, Nat.reduceMul, Nat.reduceSub, Nat.reduceEqDiff, Int32.reduceLT, Int32.reduceLE, Int32.reduceAdd, Int32.reduceSub, Int32.reduceMul, true_and, and_true, false_and, and_false, true_or, or_true, false_or, or_false, not_true_eq_false, not_false_eq_true, if_true, if_false, reduceIte, ne_eq, and_self, or_self, reduceCtorEq, Option.some.injEq, Prod.mk.injEq, vN_sN, vN_tN, h, h2, h3]
  · by_cases h : v = 11
    · subst h; rfl
    by_cases h2 : v = 10
    · subst h2; rfl
    · rw [keep_L A P h2 h]
      unfold z_fK
      simp only [ev_rd, ev_st, aEl, z_w, z_cat, Nat.reduceMod, Nat.reduceDiv, Nat.reduceLeDiff, Nat.reduceLT, Nat.reduceAdd, Nat.reduceMul, Nat.reduceSub, Nat.reduceEqDiff, Int32.reduceLT, Int32.reduceLE, Int32.reduceAdd, Int32.reduceSub, Int32.reduceMul, true_and, and_true, false_and, and_false, true_or, or_true, false_or, or_false, not_true_eq_false, not_false_eq_true, if_true, if_false, reduceIte, ne_eq, and_self, or_self, reduceCtorEq, Option.some.injEq, Prod.mk.injEq, vL_tL, h, h2]
  · show vP (fn_keep A P) = vP A
    unfold fn_keep
    dsimp only
    split <;> rfl
/-- with one more kept answer, before the count -/
def z_k1 (A : w_A) (P : w_P) : w_A := sN (sI (sL (sL A 11 (vN A 4 0) (fn_taken (vI A 64) P 264)) 10 (vN A 4 0) (vL A 12 0)) 18 (vN A 4 0) (pE P)) 15 (vN A 4 0) (vN A 5 0)
theorem mc_keep {T σ : z_St} {A : w_A} (hM : w_M T σ A) {P : w_P} (hP : vP A = some P) (hr : z_rP (vI A 64) P) (hw : pW P = 0) {n : Nat} (hB : z_B n A) (h300 : (vL A 12 0).length ≤ 300) (hby : z_by (vL A 12 0)) {d : Nat} {Q : z_St → Option z_V → Prop} (k : ∀ σ, w_M T σ (fn_keep A P) → Q σ none) : wp (zD (d + 3) 152 [.inr (.inr (some (8, 0)))] σ) Q := by
  have hb := hB.1
  have hIB := hB.2.2.2.2.2.2.2.2.2.2.2.2
  obtain ⟨hc1, hc8⟩ := rP_C hr
  have hm := rm_msg hM hP
  have hLr : m_L σ A := hM.2.2.2.2.2.2.2.2.2.2.1
  have hKr := rm_K hM
  obtain ⟨N, hN⟩ : ∃ N, N = vN A 4 0 := ⟨_, rfl⟩
  have h59 := rm_KEPTS hM
  rw [← hN] at h59
  have hN31 : N < 2147483648 := by omega
  obtain ⟨q4, hq4⟩ := some_of (rP_host hr hw).1
  have b4 := rP_txt hr (by decide) q4 hq4
  have g4 := (mm_key hm (k := 1) (by decide)).2 q4 hq4
  have htk := taken_of (r := vI A 64) hq4
  have p61 := rm_p61 hM
  have p62 := rm_p62 hM
  have p63 := rm_p63 hM
  have p64 := rm_p64 hM
  have hnow := rm_NOW hM
  refine wp_eq (c152 ..) (wp_eq (e152_0 ..) ?_)
  have hlp := ml_keep (σ := σ) (d := d) (n := N) (L := (vL A 12 0).length) (by omega) h300 h59 hLr.1 (rm_p60 hM) (rm_p65 hM) (Q := Q) (k := ?_) (vL A 12 0).length 0 (by omega)
  · rw [cp_0, rI_id] at hlp
    exact hlp
  have f1o : ∀ i, ¬ (320 * N ≤ i ∧ i < 320 * N + 320) → fn_cp (gI σ 63985553 0) 0 (320 * N) (gI σ 59058193 0) (vL A 12 0).length i = gI σ 59058193 0 i := fun i hi => by unfold fn_cp; rw [if_neg (by omega)]
  have f1n : ∀ j, (h : j < (vL A 12 0).length) → ¬ (1 ≤ j ∧ j ≤ 3) → fn_cp (gI σ 63985553 0) 0 (320 * N) (gI σ 59058193 0) (vL A 12 0).length (320 * N + j) = (vL A 12 0)[j] := fun j h hn => by
    unfold fn_cp
    rw [if_pos (by omega), Nat.zero_add, Nat.add_sub_cancel_left, hLr.2 j h hn]
    exact hby _ (List.getElem_mem h)
  generalize fn_cp (gI σ 63985553 0) 0 (320 * N) (gI σ 59058193 0) (vL A 12 0).length = f1 at *
  refine wp_eq (e152_3 ..) ?_
  rw [show gI (rI σ 59058193 0 f1) 8 59 0 = Int32.ofNat N from h59, show gI (rI σ 59058193 0 f1) 8 66 0 = Int32.ofNat (vL A 12 0).length from hLr.1]
  refine (wp_ar (k := N) p61 aty_59769904 alen_59769904 rfl (by omega) (by decide) ?_)
  simp only [io_nat hN31]
  refine wp_sw (wp_cv ?_)
  rw [show gR (wI (rI σ 59058193 0 f1) 59769904 0 N (Int32.ofNat (vL A 12 0).length)) 8 62 0 = some (60860721, 0) from p62, show gI (wI (rI σ 59058193 0 f1) 59769904 0 N (Int32.ofNat (vL A 12 0).length)) 8 59 0 = Int32.ofNat N from h59, show (41 : Int32) * Int32.ofNat N = Int32.ofNat (41 * N) from io_mul 41 N]
  have o2 : z_o5 σ (wI (rI σ 59058193 0 f1) 59769904 0 N (Int32.ofNat (vL A 12 0).length)) := o5_tr (o5_rI σ (.inl rfl) _) (o5_wI _ (.inr (.inl rfl)) _)
  have hM2 : w_M T (wI (rI σ 59058193 0 f1) 59769904 0 N (Int32.ofNat (vL A 12 0).length)) A := by
    refine wm_K0 hM o2 (by rw [← hN]; exact h59) (fun s hs => zk_ag (hKr s hs) (K_ok hB hs) rfl rfl (fun _ _ _ => rfl) ?_ (fun i h1 h2 => ?_))
    · rw [gI_wI, if_neg (fun q => by omega)]
      rfl
    · show (if 59058193 = 59058193 ∧ 0 = 0 then f1 i else gI σ 59058193 0 i) = _
      rw [if_pos ⟨rfl, rfl⟩]
      exact f1o i (by omega)
  refine mc_copyText (d := d + 1) (c := pC P) (k := 1) hM2 hm.1 hc8 (by decide) g4.1 g4.2 b4.1 b4.2.2 hIB aty_60860721 (by rw [alen_60860721]; omega) (by rw [alen_60860721]; decide) (by decide) rfl rfl fun f2 a1 a2 a3 => ⟨rfl, ?_⟩
  have a3 : ∀ i, ¬ (41 * N ≤ i ∧ i < 41 * N + 41) → f2 i = gI σ 60860721 0 i := fun i hi => a3 i hi
  rw [show gI (rI (wI (rI σ 59058193 0 f1) 59769904 0 N (Int32.ofNat (vL A 12 0).length)) 60860721 0 f2) 8 59 0 = Int32.ofNat N from h59, show gI (rI (wI (rI σ 59058193 0 f1) 59769904 0 N (Int32.ofNat (vL A 12 0).length)) 60860721 0 f2) 8 73 0 = pE P from hm.2.2.2.2.2.1]
  refine (wp_ar (k := N) p63 aty_61867056 alen_61867056 rfl (by omega) (by decide) ?_)
  simp only [io_nat hN31]
  refine wp_sw ?_
  rw [show gI (wI (rI (wI (rI σ 59058193 0 f1) 59769904 0 N (Int32.ofNat (vL A 12 0).length)) 60860721 0 f2) 61867056 0 N (pE P)) 8 59 0 = Int32.ofNat N from h59, show gI (wI (rI (wI (rI σ 59058193 0 f1) 59769904 0 N (Int32.ofNat (vL A 12 0).length)) 60860721 0 f2) 61867056 0 N (pE P)) 8 1 0 = Int32.ofNat (vN A 5 0) from hnow, io_add_l]
  refine (wp_ar (k := N) p64 aty_62915632 alen_62915632 rfl (by omega) (by decide) ?_)
  simp only [io_nat hN31]
  refine wp_sw ?_
  rw [show gI (wI (wI (rI (wI (rI σ 59058193 0 f1) 59769904 0 N (Int32.ofNat (vL A 12 0).length)) 60860721 0 f2) 61867056 0 N (pE P)) 62915632 0 N (Int32.ofNat (vN A 5 0 + 240))) 8 59 0 = Int32.ofNat N from h59, io_add_l]
  refine wp_sw ?_
  have o6 : z_o5 σ (wI (wI (wI (rI (wI (rI σ 59058193 0 f1) 59769904 0 N (Int32.ofNat (vL A 12 0).length)) 60860721 0 f2) 61867056 0 N (pE P)) 62915632 0 N (Int32.ofNat (vN A 5 0 + 240))) 8 59 0 (Int32.ofNat (N + 1))) := o5_tr o2 (o5_tr (o5_rI _ (.inr (.inr (.inl rfl))) _) (o5_tr (o5_wI _ (.inr (.inr (.inr (.inl rfl)))) _) (o5_tr (o5_wI _ (.inr (.inr (.inr (.inr rfl)))) _) (o5_w8 _ _))))
  have h596 : gI (wI (wI (wI (rI (wI (rI σ 59058193 0 f1) 59769904 0 N (Int32.ofNat (vL A 12 0).length)) 60860721 0 f2) 61867056 0 N (pE P)) 62915632 0 N (Int32.ofNat (vN A 5 0 + 240))) 8 59 0 (Int32.ofNat (N + 1))) 8 59 0 = Int32.ofNat (N + 1) := by rw [gI_wI, if_pos ⟨rfl, rfl, rfl⟩]
  have r1 : ∀ i, gI (wI (wI (wI (rI (wI (rI σ 59058193 0 f1) 59769904 0 N (Int32.ofNat (vL A 12 0).length)) 60860721 0 f2) 61867056 0 N (pE P)) 62915632 0 N (Int32.ofNat (vN A 5 0 + 240))) 8 59 0 (Int32.ofNat (N + 1))) 59058193 0 i = f1 i := fun _ => rfl
  have r2 : ∀ i, gI (wI (wI (wI (rI (wI (rI σ 59058193 0 f1) 59769904 0 N (Int32.ofNat (vL A 12 0).length)) 60860721 0 f2) 61867056 0 N (pE P)) 62915632 0 N (Int32.ofNat (vN A 5 0 + 240))) 8 59 0 (Int32.ofNat (N + 1))) 60860721 0 i = f2 i := fun _ => rfl
  have r3 : ∀ s, gI (wI (wI (wI (rI (wI (rI σ 59058193 0 f1) 59769904 0 N (Int32.ofNat (vL A 12 0).length)) 60860721 0 f2) 61867056 0 N (pE P)) 62915632 0 N (Int32.ofNat (vN A 5 0 + 240))) 8 59 0 (Int32.ofNat (N + 1))) 59769904 0 s = if s = N then Int32.ofNat (vL A 12 0).length else gI σ 59769904 0 s := fun s => by
    show gI (wI (rI σ 59058193 0 f1) 59769904 0 N (Int32.ofNat (vL A 12 0).length)) 59769904 0 s = _
    rw [gI_wI]
    by_cases e : s = N
    · rw [if_pos ⟨rfl, rfl, e⟩, if_pos e]
    · rw [if_neg (fun q => e q.2.2), if_neg e]
      rfl
  have r4 : ∀ s, gI (wI (wI (wI (rI (wI (rI σ 59058193 0 f1) 59769904 0 N (Int32.ofNat (vL A 12 0).length)) 60860721 0 f2) 61867056 0 N (pE P)) 62915632 0 N (Int32.ofNat (vN A 5 0 + 240))) 8 59 0 (Int32.ofNat (N + 1))) 61867056 0 s = if s = N then pE P else gI σ 61867056 0 s := fun s => by
    show gI (wI (rI (wI (rI σ 59058193 0 f1) 59769904 0 N (Int32.ofNat (vL A 12 0).length)) 60860721 0 f2) 61867056 0 N (pE P)) 61867056 0 s = _
    rw [gI_wI]
    by_cases e : s = N
    · rw [if_pos ⟨rfl, rfl, e⟩, if_pos e]
    · rw [if_neg (fun q => e q.2.2), if_neg e]
      rfl
  have r5 : ∀ s, gI (wI (wI (wI (rI (wI (rI σ 59058193 0 f1) 59769904 0 N (Int32.ofNat (vL A 12 0).length)) 60860721 0 f2) 61867056 0 N (pE P)) 62915632 0 N (Int32.ofNat (vN A 5 0 + 240))) 8 59 0 (Int32.ofNat (N + 1))) 62915632 0 s = if s = N then Int32.ofNat (vN A 5 0 + 240) else gI σ 62915632 0 s := fun s => by
    show gI (wI (wI (rI (wI (rI σ 59058193 0 f1) 59769904 0 N (Int32.ofNat (vL A 12 0).length)) 60860721 0 f2) 61867056 0 N (pE P)) 62915632 0 N (Int32.ofNat (vN A 5 0 + 240))) 62915632 0 s = _
    rw [gI_wI]
    by_cases e : s = N
    · rw [if_pos ⟨rfl, rfl, e⟩, if_pos e]
    · rw [if_neg (fun q => e q.2.2), if_neg e]
      rfl
  generalize wI (wI (wI (rI (wI (rI σ 59058193 0 f1) 59769904 0 N (Int32.ofNat (vL A 12 0).length)) 60860721 0 f2) 61867056 0 N (pE P)) 62915632 0 N (Int32.ofNat (vN A 5 0 + 240))) 8 59 0 (Int32.ofNat (N + 1)) = σ6 at *
  have s1 : ∀ s, ¬ s = N → (vI (z_k1 A P) 18 s = vI A 18 s ∧ vN (z_k1 A P) 15 s = vN A 15 s ∧ vL (z_k1 A P) 11 s = vL A 11 s ∧ vL (z_k1 A P) 10 s = vL A 10 s) := by
    intro s hs
    unfold z_k1
    rw [← hN]
    simp only [ev_rd, ev_st, aEl, z_w, z_cat, Nat.reduceMod, Nat.reduceDiv, Nat.reduceLeDiff, Nat.reduceLT, Nat.reduceAdd, Nat.reduceMul, Nat.reduceSub, Nat.reduceEqDiff, Int32.reduceLT, Int32.reduceLE, Int32.reduceAdd, Int32.reduceSub, Int32.reduceMul, true_and, and_true, false_and, and_false, true_or, or_true, false_or, or_false, not_true_eq_false, not_false_eq_true, if_true, if_false, reduceIte, ne_eq, and_self, or_self, reduceCtorEq, Option.some.injEq, Prod.mk.injEq, vI_sI, vN_sN, vL_sL, hs]
  have s2 : vI (z_k1 A P) 18 N = pE P ∧ vN (z_k1 A P) 15 N = vN A 5 0 ∧ vL (z_k1 A P) 11 N = fn_taken (vI A 64) P 264 ∧ vL (z_k1 A P) 10 N = vL A 12 0 := by
    unfold z_k1
    rw [← hN]
    simp only [ev_rd, ev_st, aEl, z_w, z_cat, Nat.reduceMod, Nat.reduceDiv, Nat.reduceLeDiff, Nat.reduceLT, Nat.reduceAdd, Nat.reduceMul, Nat.reduceSub, Nat.reduceEqDiff, Int32.reduceLT, Int32.reduceLE, Int32.reduceAdd, Int32.reduceSub, Int32.reduceMul, true_and, and_true, false_and, and_false, true_or, or_true, false_or, or_false, not_true_eq_false, not_false_eq_true, if_true, if_false, reduceIte, ne_eq, and_self, or_self, reduceCtorEq, Option.some.injEq, Prod.mk.injEq, vI_sI, vN_sN, vL_sL]
  have rows : ∀ s, s < N + 1 → zk σ6 (z_k1 A P) s s ∧ zk_ok (z_k1 A P) s := by
    intro s hs
    by_cases e : s = N
    · subst e
      unfold zk zk_ok
      rw [s2.1, s2.2.1, s2.2.2.1, s2.2.2.2]
      refine ⟨⟨by rw [r4, if_pos rfl], by rw [r5, if_pos rfl], ⟨?_, fun i hi => ?_⟩, by rw [r3, if_pos rfl], fun j hj hn => by rw [r1]; exact f1n j hj hn⟩, rP_taken hIB hr (by decide), h300, hby⟩
      · rw [r2, a1, htk, text_len]
      · rw [r2]
        simp only [htk] at hi ⊢
        exact a2 i hi
    · have hs' : s < vN A 4 0 := by omega
      obtain ⟨t1, t2, t3, t4⟩ := s1 s e
      have hz := zk_ag (σ' := σ6) (hKr s hs') (K_ok hB hs') (by rw [r4, if_neg e]) (by rw [r5, if_neg e]) (fun i h1 h2 => by rw [r2]; exact a3 i (by omega)) (by rw [r3, if_neg e]) (fun i h1 h2 => by rw [r1]; exact f1o i (by omega))
      have ho := K_ok hB hs'
      unfold zk at hz ⊢
      unfold zk_ok at ho ⊢
      simp only [t1, t2, t3, t4]
      exact ⟨hz, ho⟩
  have fin : ∀ σ', z_o5 σ σ' → gI σ' 8 59 0 = Int32.ofNat (vN (fn_keep A P) 4 0) → (∀ s, s < vN (fn_keep A P) 4 0 → zk σ' (fn_keep A P) s s) → Q σ' none := by
    intro σ' h5 h59 hrw
    have := k σ'
    rw [keep_fK] at this
    exact this (wm_K hM h5 h59 _ _ _ _ _ (fun s hs => hrw s hs))
  rw [h596]
  by_cases h32 : N = 32
  · have ek : fn_keep A P = sN (sN (sI (sL (sL (fn_drop1 A) 11 31 (fn_taken (vI A 64) P 264)) 10 31 (vL A 12 0)) 18 31 (pE P)) 15 31 (vN A 5 0)) 4 0 32 := by
      unfold fn_keep
      dsimp only
      rw [if_pos (by omega), show vN (fn_drop1 A) 4 0 = 31 from by rw [drop1_KEPTS]; omega]
    refine wp_if (fun _ => ?_) (fun h => absurd (by rw [h32]; decide) h)
    have q : ∀ a, gR σ6 8 a 0 = gR σ 8 a 0 := fun a => o6.2.2.2.1 _ _ _
    refine wp_eq (e152_4 ..) (wp_cv (wp_eq (c151 ..) (wp_eq (e151_0 ..) (ml_oldest (d := d) (σ0 := σ6) (A := z_k1 A P) (n := N + 1) (by omega) (by omega) (fun k hk => (rows k hk).2) ((q _).trans (rm_p60 hM)) ((q _).trans p61) ((q _).trans p62) ((q _).trans p63) ((q _).trans p64) (fun σ7 h5 h59 hr7 => ⟨rfl, wp_eq (e152_5 ..) (wp_ret (fin σ7 (o5_tr o6 h5) ?_ (fun s hs => ?_)))⟩) N 0 σ6 (by omega) (o5_rf σ6) h596 (fun s hs => absurd hs (by omega)) (fun s _ hs => (rows s hs).1)))))
    · rw [h59, ek, vN_sN, if_pos ⟨rfl, rfl⟩, h32]
    · have hs : s < 32 := by
        rw [ek, vN_sN, if_pos ⟨rfl, rfl⟩] at hs
        exact hs
      have := hr7 s (by omega)
      have eo : ∀ {α : Type} (r : Nat → α), ¬ s = 31 → fn_out 32 0 r s = r (s + 1) := fun r hs => by unfold fn_out; rw [if_pos (by omega)]
      have t : vI (fn_keep A P) 18 s = vI (z_k1 A P) 18 (s + 1) ∧ vN (fn_keep A P) 15 s = vN (z_k1 A P) 15 (s + 1) ∧ vL (fn_keep A P) 11 s = vL (z_k1 A P) 11 (s + 1) ∧ vL (fn_keep A P) 10 s = vL (z_k1 A P) 10 (s + 1) := by
        by_cases e : s = 31
        · subst e
          rw [show 31 + 1 = N from by omega, s2.1, s2.2.1, s2.2.2.1, s2.2.2.2, ek]
          simp only [ev_rd, ev_st, aEl, z_w, z_cat, Nat.reduceMod, Nat.reduceDiv, Nat.reduceLeDiff, Nat.reduceLT, Nat.reduceAdd, Nat.reduceMul, Nat.reduceSub, Nat.reduceEqDiff, Int32.reduceLT, Int32.reduceLE, Int32.reduceAdd, Int32.reduceSub, Int32.reduceMul, true_and, and_true, false_and, and_false, true_or, or_true, false_or, or_false, not_true_eq_false, not_false_eq_true, if_true, if_false, reduceIte, ne_eq, and_self, or_self, reduceCtorEq, Option.some.injEq, Prod.mk.injEq, vI_sI, vN_sN, vL_sL]
        · obtain ⟨t1, t2, t3, t4⟩ := s1 (s + 1) (by omega)
          rw [t1, t2, t3, t4, ek]
          simp only [ev_rd, ev_st, aEl, z_w, z_cat, Nat.reduceMod, Nat.reduceDiv, Nat.reduceLeDiff, Nat.reduceLT, Nat.reduceAdd, Nat.reduceMul, Nat.reduceSub, Nat.reduceEqDiff, Int32.reduceLT, Int32.reduceLE, Int32.reduceAdd, Int32.reduceSub, Int32.reduceMul, true_and, and_true, false_and, and_false, true_or, or_true, false_or, or_false, not_true_eq_false, not_false_eq_true, if_true, if_false, reduceIte, ne_eq, and_self, or_self, reduceCtorEq, Option.some.injEq, Prod.mk.injEq, vI_sI, vN_sN, vL_sL, e]
          unfold fn_drop1
          rw [← hN, h32]
          refine ⟨eo (vI A 18) e, eo (vN A 15) e, eo (vL A 11) e, eo (vL A 10) e⟩
      unfold zk at this ⊢
      simp only [t.1, t.2.1, t.2.2.1, t.2.2.2]
      exact this
  · have ek : fn_keep A P = sN (z_k1 A P) 4 0 (N + 1) := by
      unfold fn_keep z_k1
      dsimp only
      rw [if_neg (by omega), ← hN]
    refine wp_if (fun h => ?_) (fun _ => ?_)
    · rw [io_eq_l (by omega) (by decide)] at h
      have h : N + 1 = 33 := h
      omega
    refine wp_eq (e152_5 ..) (wp_ret (fin σ6 o6 ?_ (fun s hs => ?_)))
    · rw [h596, ek, vN_sN, if_pos ⟨rfl, rfl⟩]
    · have hs : s < N + 1 := by
        rw [ek, vN_sN, if_pos ⟨rfl, rfl⟩] at hs
        exact hs
      rw [ek]
      exact (rows s hs).1
