/-! PART 88c (src 88c.mdecide.src): the twin decides a credit -/
set_option maxHeartbeats 800000
theorem ev_add {b w : Int64} (h1 : 0 ≤ b.toInt ∧ b.toInt ≤ 1152921504606846976) (h2 : 0 ≤ w ∧ w ≤ 1152921504606846976) : (1152921504606846976 < b + w) = (1152921504606846976 - b < w) := by
  have g1 := Int64.le_iff_toInt_le.mp h2.1
  have g2 := Int64.le_iff_toInt_le.mp h2.2
  rw [show (0 : Int64).toInt = 0 from rfl] at g1
  rw [show (1152921504606846976 : Int64).toInt = 1152921504606846976 from by decide] at g2
  rw [i64_lt, i64_lt, i64_add ⟨by omega, by omega⟩ ⟨by omega, by omega⟩, i64_sub (by decide) ⟨by omega, by omega⟩, show (1152921504606846976 : Int64).toInt = 1152921504606846976 from by decide]
  exact propext ⟨fun h => by omega, fun h => by omega⟩
theorem mc_event {T σ : z_St} {A : w_A} (hM : w_M T σ A) {P : w_P} (hP : vP A = some P) (hr : z_rP (vI A 64) P) (hw : pW P = 0) (hIB : ∀ k, nb (vI A 64 k) = vI A 64 k) (h16 : vN A 1 0 ≤ 16) (hR : fn_right (vI A 64) P 437) (hbd : ∀ a, a < vN A 1 0 → 0 ≤ (vJ A 1 a).toInt ∧ (vJ A 1 a).toInt ≤ 1152921504606846976) {d : Nat} {act : Int32} {y : Int64} (hy : y = z_uv A P 437 0) {Q : z_St → Option z_V → Prop} (k : ∀ σ, w_M T σ (fn_event A P act).1 → Q σ (some (.inl (fn_event A P act).2))) : wp (zD (d + 3) 149 [.inr (.inr (some (8, 0))), .inl act, .inr (.inl y)] σ) Q := by
  subst hy
  have hR2 := uv_right.mp hR
  unfold fn_event at k
  rw [← uv_eq hR 0] at k
  generalize z_uv A P 437 0 = w at *
  refine wp_eq (c149 ..) (wp_eq (e149_0 ..) (wp_cr (mc_sub (d := d) hM hP hr hw hIB h16 ⟨_, rfl, wp_asI0 ?_⟩)))
  cases hs : fn_sub A P with
  | none =>
    rw [hs] at k
    exact wp_if (fun q => absurd q (by decide)) (fun _ => wp_eq (e149_1 ..) (wp_ret (k σ hM)))
  | some a =>
    rw [hs] at k
    dsimp only at k
    have haa := sub_lt hs
    have ha : a < 16 := by omega
    have ha31 : a < 2147483648 := by omega
    have hb := hbd a haa
    rw [show fn_ix (some a) = Int32.ofNat a from rfl]
    refine wp_if (fun _ => ?_) (fun q => absurd (io_pos ha31) q)
    refine wp_eq (e149_2 ..) (wp_if (fun h2 => ?_) (fun h2 => ?_))
    · rw [if_pos h2] at k
      refine wp_eq (e149_3 ..) (wp_cr (mc_free (d := d + 1) hM ha rfl ⟨_, rfl, wp_asJ0 ?_⟩))
      have k6 : ∀ v : Int32, v = b2i (fn_free A a < w) → wp (E xP149 (zD (d + 2)) 6 [none, none, none, none, none] [.inl v, .inr (.inr (some (8, 0)))] σ) Q := by
        rintro v rfl
        exact wp_eq (e149_6 ..) (wp_dr rfl (wp_gd rfl (wp_swM (wm_ENOUGH hM _) fun σ hM => wp_eq (e149_14 ..) (wp_ret (k σ hM)))))
      refine wp_if (fun h => ?_) (fun h => ?_) <;> rw [lg_gt] at h
      · exact wp_eq (e149_5 ..) (k6 1 (by rw [b2i_t h]))
      · exact wp_eq (e149_4 ..) (k6 0 (by rw [b2i_f h]))
    rw [if_neg h2] at k
    refine wp_eq (e149_7 ..) (wp_if (fun h0 => ?_) (fun h0 => ?_))
    · rw [if_pos h0] at k
      refine wp_eq (e149_8 ..) (wp_cr (mc_free (d := d + 1) hM ha rfl ⟨_, rfl, wp_asJ0 ?_⟩))
      refine wp_if (fun h => ?_) (fun h => ?_) <;> rw [lg_le] at h
      · rw [if_neg h] at k
        refine wp_eq (e149_10 ..) (wp_ar (rm_p37 hM) aty_37749267 alen_37749267 rfl (by omega) (by decide) (wp_ar (rm_p37 hM) aty_37749267 alen_37749267 rfl (by omega) (by decide) ?_))
        simp only [io_nat ha31]
        rw [rm_ABAL hM]
        refine wp_swM (wm_ABAL hM a _) fun σ hM => (wp_ar (rm_p39 hM) aty_39846419 alen_39846419 rfl (by omega) (by decide) (wp_ar (rm_p39 hM) aty_39846419 alen_39846419 rfl (by omega) (by decide) ?_))
        simp only [io_nat ha31]
        rw [rm_ACHG hM]
        exact wp_swM (wm_ACHG hM a _) fun σ hM => wp_eq (e149_14 ..) (wp_ret (k σ hM))
      · rw [if_pos (Classical.not_not.mp h)] at k
        exact wp_eq (e149_9 ..) (wp_ret (k σ hM))
    · rw [if_neg h0] at k
      refine wp_eq (e149_11 ..) (wp_ar (rm_p37 hM) aty_37749267 alen_37749267 rfl (by omega) (by decide) ?_)
      dsimp only
      rw [io_nat ha31, rm_ABAL hM]
      refine wp_if (fun h => ?_) (fun h => ?_) <;> rw [lg_le, ev_add hb hR2] at h
      · rw [if_neg h] at k
        refine wp_eq (e149_13 ..) (wp_ar (rm_p37 hM) aty_37749267 alen_37749267 rfl (by omega) (by decide) (wp_ar (rm_p37 hM) aty_37749267 alen_37749267 rfl (by omega) (by decide) ?_))
        simp only [io_nat ha31]
        rw [rm_ABAL hM]
        refine wp_swM (wm_ABAL hM a _) fun σ hM => (wp_ar (rm_p39 hM) aty_39846419 alen_39846419 rfl (by omega) (by decide) (wp_ar (rm_p39 hM) aty_39846419 alen_39846419 rfl (by omega) (by decide) ?_))
        simp only [io_nat ha31]
        rw [rm_ACHG hM]
        exact wp_swM (wm_ACHG hM a _) fun σ hM => wp_eq (e149_14 ..) (wp_ret (k σ hM))
      · rw [if_pos (Classical.not_not.mp h)] at k
        exact wp_eq (e149_12 ..) (wp_ret (k σ hM))
/-- goes on, or ends -/
theorem mc_charge {T σ : z_St} {A : w_A} (hM : w_M T σ A) {P : w_P} (hP : vP A = some P) (hr : z_rP (vI A 64) P) (hw : pW P = 0) (h415 : (fn_find (pN P) 415).isSome = true) {n : Nat} (hB : z_B n A) (hS1 : z_S1 A) (hS2 : z_S2 A) (hSN : z_SN A) (hg : ∀ r, r < 16 → ¬ vN A 16 0 = r + 1) (hR : fn_right (vI A 64) P 437) (hR2 : fn_right (vI A 64) P 446) {s p : Nat} (hs : s < vN A 2 0) {d : Nat} {t : Int64} {y6 : Int64} (hy6 : y6 = fn_used A P) {Q : z_St → Option z_V → Prop}
    (k3 : t = 3 → ∀ σ, w_M T σ (fn_remove (fn_settle A s (fn_used A P)) s) → Q σ (some (.inl 2001)))
    (k2 : ¬ t = 3 → 0 < fn_free (fn_note (fn_settle A s (fn_used A P)) P p s) (vN A 13 s - 1) → ∀ σ, w_M T σ (fn_grant (fn_note (fn_settle A s (fn_used A P)) P p s) P s) → Q σ (some (.inl 2001)))
    (k4 : ¬ t = 3 → ¬ 0 < fn_free (fn_note (fn_settle A s (fn_used A P)) P p s) (vN A 13 s - 1) → ∀ σ, w_M T σ (sI (fn_note (fn_settle A s (fn_used A P)) P p s) 21 s (Int32.ofNat (vN A 5 0 + 600))) → Q σ (some (.inl 4012))) :
    wp (E xP145 (zD (d + 6)) 21 [some (.inr (.inr (some (8, 0)))), some (.inl (Int32.ofNat p)), some (.inr (.inl t)), none, none, none, some (.inr (.inl y6)), none, none, some (.inl (Int32.ofNat s)), none, none, none] [] σ) Q := by
  have hb := hB.1
  have hIB := hB.2.2.2.2.2.2.2.2.2.2.2.2
  have hs16 : s < 16 := by omega
  have hs31 : s < 2147483648 := by omega
  obtain ⟨ha1, ha2, hgr, -⟩ := hS1 s hs
  obtain ⟨a, haa⟩ : ∃ a, a = vN A 13 s - 1 := ⟨_, rfl⟩
  have ha16 : a < 16 := by omega
  have ha31 : a < 2147483648 := by omega
  have rac := rm_SACC hM hs
  rw [← haa] at rac
  rw [← haa] at k2 k4
  obtain ⟨sS1, sS2, sG⟩ := S_settle (u := fn_used A P) hS1 hS2 hs units_used
  have key24 : ∀ ch : Int64, ch = (if vJ A 5 s < fn_used A P then vJ A 5 s else fn_used A P) → wp (E xP145 (zD (d + 6)) 24 [some (.inr (.inr (some (8, 0)))), some (.inl (Int32.ofNat p)), some (.inr (.inl t)), none, none, none, none, none, none, some (.inl (Int32.ofNat s)), some (.inl (Int32.ofNat a)), none, none] [.inr (.inl ch)] σ) Q := by
    intro ch hch
    refine wp_eq (e145_24 ..) (wp_ar (rm_p37 hM) aty_37749267 alen_37749267 rfl (by omega) (by decide) (wp_ar (rm_p37 hM) aty_37749267 alen_37749267 rfl (by omega) (by decide) ?_))
    simp only [io_nat ha31]
    rw [rm_ABAL hM]
    refine wp_swM (wm_ABAL hM a _) fun σ hM => (wp_ar (rm_p39 hM) aty_39846419 alen_39846419 rfl (by omega) (by decide) (wp_ar (rm_p39 hM) aty_39846419 alen_39846419 rfl (by omega) (by decide) ?_))
    simp only [io_nat ha31]
    rw [rm_ACHG hM]
    refine wp_swM (wm_ACHG hM a _) fun σ hM => (wp_ar (rm_p38 hM) aty_38797843 alen_38797843 rfl (by omega) (by decide) (wp_ar (rm_p45 hM) aty_45089299 alen_45089299 rfl (by omega) (by decide) (wp_ar (rm_p38 hM) aty_38797843 alen_38797843 rfl (by omega) (by decide) ?_)))
    simp only [io_nat ha31, io_nat hs31]
    rw [rm_ARES hM, rm_SGRANT hM (s := s) hs]
    refine wp_swM (wm_ARES hM a _) fun σ hM => (wp_ar (rm_p45 hM) aty_45089299 alen_45089299 rfl (by omega) (by decide) ?_)
    simp only [io_nat hs31]
    refine wp_swM (wm_SGRANT hM s hg _) fun σ hM => ?_
    have hM : w_M T σ (fn_settle A s (fn_used A P)) := by
      unfold fn_settle
      dsimp only
      rw [← haa, ← hch]
      exact hM
    have eB : fn_settle A s (fn_used A P) = fn_settle A s (fn_used A P) := rfl
    have hPB : vP (fn_settle A s (fn_used A P)) = some P := hP
    have hrB : z_rP (vI (fn_settle A s (fn_used A P)) 64) P := hr
    have hSNB : z_SN (fn_settle A s (fn_used A P)) := hSN
    have hsB : s < vN (fn_settle A s (fn_used A P)) 2 0 := hs
    have hlB : vN (fn_settle A s (fn_used A P)) 2 0 ≤ 16 := by show vN A 2 0 ≤ 16; omega
    have hgB : ∀ r, r < 16 → ¬ vN (fn_settle A s (fn_used A P)) 16 0 = r + 1 := hg
    have haB : vN (fn_settle A s (fn_used A P)) 13 s = vN A 13 s := rfl
    have hacB : a < vN (fn_settle A s (fn_used A P)) 1 0 := by show a < vN A 1 0; omega
    have hnowB : vN (fn_settle A s (fn_used A P)) 5 0 = vN A 5 0 := rfl
    have hIBB : ∀ k, nb (vI (fn_settle A s (fn_used A P)) 64 k) = vI (fn_settle A s (fn_used A P)) 64 k := hIB
    have hRB : fn_right (vI (fn_settle A s (fn_used A P)) 64) P 437 := hR
    generalize fn_settle A s (fn_used A P) = B at *
    refine wp_if (fun h3 => ?_) (fun h3 => ?_) <;> rw [lg_eq] at h3
    · exact wp_eq (e145_25 ..) (wp_cv (mc_forget (d := d + 4) hM hsB hlB hSNB hgB fun σ hM => ⟨rfl, wp_ret (k3 h3 σ hM)⟩))
    have z2 : ∀ r, r < vN B 2 0 → (vL B 5 r).length ≤ 40 := fun r hr => (hSNB r hr).2.1.1
    have z3 : ∀ r, r < vN B 2 0 → (vL B 6 r).length ≤ 40 := fun r hr => (hSNB r hr).2.2.1
    refine wp_eq (e145_26 ..) (wp_cv (mc_of (d := d + 2) (p := p) hM hPB hrB hw h415 hIBB hs16 z2 z3 rfl rfl fun σ hM => ⟨rfl, ?_⟩))
    rw [hnowB] at hM
    refine wp_cr (mc_free (d := d + 5) hM ha16 rfl ⟨_, rfl, wp_asJ0 ?_⟩)
    have ef : fn_free (sI (fn_note B P p s) 21 s (Int32.ofNat (vN A 5 0 + 600))) a = fn_free B a := rfl
    have ef2 : fn_free (fn_note B P p s) a = fn_free B a := rfl
    have hfb := free_int (S2_bd (fun r hr => (sS1 r hr).2.2.1) sS2 hacB)
    have hbd := S2_bd (fun r hr => (sS1 r hr).2.2.1) sS2 hacB
    rw [ef]
    rw [ef2] at k2 k4
    have h0 : (fn_free B a = 0) = ¬ (0 < fn_free B a) := by
      rw [i64_lt, ← Int64.toInt_inj, show (0 : Int64).toInt = 0 from rfl, hfb]
      exact propext ⟨fun h => by omega, fun h => by omega⟩
    refine wp_if (fun h => ?_) (fun h => ?_) <;> rw [lg_eq, h0] at h
    · exact wp_eq (e145_27 ..) (wp_ret (k4 h3 h σ hM))
    · have h := Classical.not_not.mp h
      refine wp_eq (e145_28 ..) (wp_cv (mc_grantN (d := d + 1) (s := s) hM (P := P) hPB hrB hw hRB hgB hsB hlB ⟨by show 1 ≤ vN B 13 s; omega, by show vN B 13 s ≤ 16; omega⟩ ?_ rfl fun σ hM => ⟨rfl, wp_ret (k2 h3 h σ ?_)⟩))
      · show vI (sI (fn_note B P p s) 21 s (Int32.ofNat (vN A 5 0 + 600))) 21 s = Int32.ofNat (vN B 5 0 + 600)
        rw [vI_sI, if_pos ⟨rfl, rfl⟩, hnowB]
      · rw [grant_SEND] at hM
        exact hM
  refine wp_eq (e145_21 ..) (wp_ar (rm_p44 hM) aty_44040720 alen_44040720 rfl (by omega) (by decide) (wp_ar (rm_p45 hM) aty_45089299 alen_45089299 rfl (by omega) (by decide) ?_))
  dsimp only
  rw [io_nat hs31, rac, rm_SGRANT hM hs, hy6]
  refine wp_if (fun h => ?_) (fun h => ?_) <;> rw [lg_ge] at h
  · refine wp_eq (e145_23 ..) (wp_ar (rm_p45 hM) aty_45089299 alen_45089299 rfl (by omega) (by decide) ?_)
    dsimp only
    rw [io_nat hs31, rm_SGRANT hM hs]
    refine key24 _ ?_
    split
    · rfl
    · rename_i h2
      exact Int64.le_antisymm (Int64.not_lt.mp h) (Int64.not_lt.mp h2)
  · have h := Classical.not_not.mp h
    refine wp_eq (e145_22 ..) (key24 _ ?_)
    rw [if_neg (fun q => Int64.lt_irrefl (Int64.lt_trans q h))]
theorem grant_SG (A : w_A) (P : w_P) (s : Nat) (x : Int64) : fn_grant (sJ A 5 s x) P s = fn_grant A P s := by
  have e1 : ∀ (X : w_A) (z : Int64), sJ (sJ X 5 s x) 5 s z = sJ X 5 s z := fun X z => sJ_sJ X _ _ _ _
  unfold fn_grant
  dsimp only
  rw [e1]
  rfl
theorem note_SG (A : w_A) (P : w_P) (p s : Nat) (x : Int64) : fn_note (sJ A 5 s x) P p s = sJ (fn_note A P p s) 5 s x := by
  unfold fn_note
  refine A_ext (fun v i => rfl) (fun v i => ?_) (fun v i => rfl) (fun v i => rfl) rfl
  simp only [ev_rd, ev_st, aEl, z_w, z_cat, Nat.reduceMod, Nat.reduceDiv, Nat.reduceLeDiff, Nat.reduceLT, Nat.reduceAdd, Nat.reduceMul, Nat.reduceSub, Nat.reduceEqDiff, Int32.reduceLT, Int32.reduceLE, Int32.reduceAdd, Int32.reduceSub, Int32.reduceMul, true_and, and_true, false_and, and_false, true_or, or_true, false_or, or_false, not_true_eq_false, not_false_eq_true, if_true, if_false, reduceIte, ne_eq, and_self, or_self, reduceCtorEq, Option.some.injEq, Prod.mk.injEq, vJ_sJ]
  by_cases h1 : v = 6 ∧ i = s
  · obtain ⟨rfl, rfl⟩ := h1; simp only [ev_rd, ev_st, aEl, z_w, z_cat, Nat.reduceMod, Nat.reduceDiv, Nat.reduceLeDiff, Nat.reduceLT, Nat.reduceAdd, Nat.reduceMul, Nat.reduceSub, Nat.reduceEqDiff, Int32.reduceLT, Int32.reduceLE, Int32.reduceAdd, Int32.reduceSub, Int32.reduceMul, true_and, and_true, false_and, and_false, true_or, or_true, false_or, or_false, not_true_eq_false, not_false_eq_true, if_true, if_false, reduceIte, ne_eq, and_self, or_self, reduceCtorEq, Option.some.injEq, Prod.mk.injEq] <;> rfl
  · simp only [h1, ev_rd, ev_st, aEl, z_w, z_cat, Nat.reduceMod, Nat.reduceDiv, Nat.reduceLeDiff, Nat.reduceLT, Nat.reduceAdd, Nat.reduceMul, Nat.reduceSub, Nat.reduceEqDiff, Int32.reduceLT, Int32.reduceLE, Int32.reduceAdd, Int32.reduceSub, Int32.reduceMul, true_and, and_true, false_and, and_false, true_or, or_true, false_or, or_false, not_true_eq_false, not_false_eq_true, if_true, if_false, reduceIte, ne_eq, and_self, or_self, reduceCtorEq, Option.some.injEq, Prod.mk.injEq] <;> rfl
/-- one more session: its row as the memory has it -/
theorem wm_more {T σ : z_St} {A : w_A} (h : w_M T σ A) {s : Nat} (hs : vN A 2 0 = s) (h16 : s < 16) (hg : ∀ r, r < 16 → ¬ vN A 16 0 = r + 1) : ∃ l1 l2 l3 a0 g0 c0 p0 e0, l1.length ≤ 40 ∧ l2.length ≤ 40 ∧ l3.length ≤ 40 ∧ w_M T (wI σ 8 40 0 (Int32.ofNat (s + 1))) (sI (sI (sJ (sJ (sN (sL (sL (sL (sN A 2 0 (s + 1)) 4 s l1) 5 s l2) 6 s l3) 13 s a0) 5 s g0) 6 s c0) 20 s p0) 21 s e0) := by
  obtain ⟨hT, hA, hB, hC, hD, hG, hH, hI, hJ, hK, hL, hM, hN⟩ := h
  obtain ⟨⟨n1, k1, g1⟩, ⟨n2, k2, g2⟩, ⟨n3, k3, g3⟩⟩ := hJ.1 s h16
  have row : ∀ (a b n : Nat), gI σ a 0 b = Int32.ofNat n → m_nm (wI σ 8 40 0 (Int32.ofNat (s + 1))) a b ((List.range n).map fun k => gI σ a 0 (b + 1 + k)) ∨ a = 8 := by
    intro a b n hn
    by_cases h8 : a = 8
    · exact .inr h8
    left
    have e : ∀ m, gI (wI σ 8 40 0 (Int32.ofNat (s + 1))) a 0 m = gI σ a 0 m := fun m => by rw [gI_wI, if_neg (fun q => h8 q.1)]
    refine ⟨by rw [e, hn, List.length_map, List.length_range], fun k hk => ?_⟩
    rw [e]
    simp
  refine ⟨(List.range n1).map fun k => gI σ 40915473 0 (41 * s + 1 + k), (List.range n2).map fun k => gI σ 41964049 0 (41 * s + 1 + k), (List.range n3).map fun k => gI σ 43012625 0 (41 * s + 1 + k), (gI σ 44040720 0 s).toBitVec.toNat + 1, gJ σ 45089299 0 s, gJ σ 46137875 0 s, gI σ 47186448 0 s, gI σ 48235024 0 s, by rw [List.length_map, List.length_range]; exact k1, by rw [List.length_map, List.length_range]; exact k2, by rw [List.length_map, List.length_range]; exact k3, m_T_wI hT (.inl rfl), hA, hB, ⟨hC.1, hC.2.1, rfl, hC.2.2.2⟩, hD, hG, hH, hI, ⟨hJ.1, fun r hr => ?_⟩, hK, hL, hM, ⟨hN.1, fun r hr q => ?_⟩⟩
  · have hr : r < s + 1 := hr
    simp only [ev_rd, ev_st, aEl, z_w, z_cat, Nat.reduceMod, Nat.reduceDiv, Nat.reduceLeDiff, Nat.reduceLT, Nat.reduceAdd, Nat.reduceMul, Nat.reduceSub, Nat.reduceEqDiff, Int32.reduceLT, Int32.reduceLE, Int32.reduceAdd, Int32.reduceSub, Int32.reduceMul, true_and, and_true, false_and, and_false, true_or, or_true, false_or, or_false, not_true_eq_false, not_false_eq_true, if_true, if_false, reduceIte, ne_eq, and_self, or_self, reduceCtorEq, Option.some.injEq, Prod.mk.injEq, vI_sI, vJ_sJ, vN_sN, vL_sL]
    by_cases e : r = s
    · subst e
      simp only [ev_rd, ev_st, aEl, z_w, z_cat, Nat.reduceMod, Nat.reduceDiv, Nat.reduceLeDiff, Nat.reduceLT, Nat.reduceAdd, Nat.reduceMul, Nat.reduceSub, Nat.reduceEqDiff, Int32.reduceLT, Int32.reduceLE, Int32.reduceAdd, Int32.reduceSub, Int32.reduceMul, true_and, and_true, false_and, and_false, true_or, or_true, false_or, or_false, not_true_eq_false, not_false_eq_true, if_true, if_false, reduceIte, ne_eq, and_self, or_self, reduceCtorEq, Option.some.injEq, Prod.mk.injEq]
      refine ⟨rfl, rfl, rfl, rfl, ?_, (row 40915473 _ n1 g1).resolve_right (by decide), (row 41964049 _ n2 g2).resolve_right (by decide), (row 43012625 _ n3 g3).resolve_right (by decide)⟩
      rw [Nat.add_sub_cancel]
      apply Int32.toBitVec_inj.mp
      show _ = BitVec.ofNat 32 _
      rw [BitVec.ofNat_toNat, BitVec.setWidth_eq]
      rfl
    · have := hJ.2 r (by omega)
      simp only [e, ev_rd, ev_st, aEl, z_w, z_cat, Nat.reduceMod, Nat.reduceDiv, Nat.reduceLeDiff, Nat.reduceLT, Nat.reduceAdd, Nat.reduceMul, Nat.reduceSub, Nat.reduceEqDiff, Int32.reduceLT, Int32.reduceLE, Int32.reduceAdd, Int32.reduceSub, Int32.reduceMul, true_and, and_true, false_and, and_false, true_or, or_true, false_or, or_false, not_true_eq_false, not_false_eq_true, if_true, if_false, reduceIte, ne_eq, and_self, or_self, reduceCtorEq, Option.some.injEq, Prod.mk.injEq]
      exact this
  · exact absurd q (hg r hr)
