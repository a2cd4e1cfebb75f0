/-! PART 88h (src 88h.mcredit.src): the twin's credit -/
set_option maxHeartbeats 800000
theorem m_PGk {T σ : z_St} {A : w_A} (h : w_M T σ A) {f : Nat → Int32} (m : List Int32) (hf : ∀ j, (hj : j < m.length) → ¬ (1 ≤ j ∧ j ≤ 3) → f j = m[j]) : w_M T (rI (wI σ 8 66 0 (Int32.ofNat m.length)) 63985553 0 f) (fn_page A m) := by
  obtain ⟨hT, hA, hB, hC, hD, hG, hH, hI, hJ, hK, hL, hM, hN⟩ := h
  refine ⟨m_T_rI (m_T_wI hT (.inl rfl)) (z_isM_yes _ rfl), hA, hB, hC, hD, hG, hH, hI, hJ, hK, ⟨rfl, fun j hj hne => ?_⟩, hM, hN⟩
  rw [hI_rI, if_pos ⟨rfl, rfl⟩]
  exact hf j hj hne
theorem ml_acopy {σ : z_St} {d i L c : Nat} (hi : i < 32) (hL : L ≤ 300) (h66 : gI σ 8 66 0 = Int32.ofNat L) (hp : gR σ 8 60 0 = some (59058193, 0)) (hp2 : gR σ 8 65 0 = some (63985553, 0)) {Q : z_St → Option z_V → Prop} (k : wp (E xP153 (zD (d + 3)) 7 [some (.inr (.inr (some (8, 0)))), some (.inl (Int32.ofNat c)), none, none] [] (rI σ 63985553 0 (fn_cp (gI σ 59058193 0) (320 * i) 0 (gI σ 63985553 0) L))) Q) : ∀ (m j : Nat), j + m = L →
    wp (E xP153 (zD (d + 3)) 5 [some (.inr (.inr (some (8, 0)))), some (.inl (Int32.ofNat c)), some (.inl (Int32.ofNat i)), some (.inl (Int32.ofNat j))] [] (rI σ 63985553 0 (fn_cp (gI σ 59058193 0) (320 * i) 0 (gI σ 63985553 0) j))) Q
  | 0, j, hj => by
    have e66 : gI (rI σ 63985553 0 (fn_cp (gI σ 59058193 0) (320 * i) 0 (gI σ 63985553 0) j)) 8 66 0 = Int32.ofNat L := h66
    have : j = L := by omega
    subst this
    refine wp_eq (e153_5 ..) ?_
    rw [e66]
    exact wp_if (fun _ => k) (fun h => by rw [io_le (by omega) (by omega)] at h; omega)
  | m + 1, j, hj => by
    have e66 : gI (rI σ 63985553 0 (fn_cp (gI σ 59058193 0) (320 * i) 0 (gI σ 63985553 0) j)) 8 66 0 = Int32.ofNat L := h66
    have er : gI (rI σ 63985553 0 (fn_cp (gI σ 59058193 0) (320 * i) 0 (gI σ 63985553 0) j)) 59058193 0 (320 * i + j) = gI σ 59058193 0 (320 * i + j) := by rw [hI_rI, if_neg (fun q => absurd q.1 (by decide))]
    have ei : (320 : Int32) * Int32.ofNat i + Int32.ofNat j = Int32.ofNat (320 * i + j) := by rw [show (320 : Int32) * Int32.ofNat i = Int32.ofNat (320 * i) from io_mul 320 i, io_add]
    have cps := cp_s (gI σ 59058193 0) (320 * i) 0 (gI σ 63985553 0) j
    rw [Nat.zero_add] at cps
    refine wp_eq (e153_5 ..) ?_
    rw [e66]
    refine wp_if (fun h => by rw [io_le (by omega) (by omega)] at h; omega) (fun _ => ?_)
    refine wp_eq (e153_6 ..) ?_
    simp only [ei]
    refine (wp_ar (k := 320 * i + j) hp aty_59058193 alen_59058193 rfl (by omega) (by decide) ?_)
    refine (wp_ar (k := j) hp2 aty_63985553 alen_63985553 rfl (by omega) (by decide) ?_)
    rw [io_nat (by omega), io_nat (by omega), nb_un, io_add_l]
    dsimp only
    rw [er, wI_rI, cps]
    exact wp_sw (ml_acopy hi hL h66 hp hp2 k m (j + 1) (by omega))
theorem mc_again {T σ : z_St} {A : w_A} (hM : w_M T σ A) {P : w_P} (hP : vP A = some P) (hr : z_rP (vI A 64) P) (hw : pW P = 0) {n c : Nat} (hB : z_B n A) (hT : z_KT A) (hc1 : 1 ≤ c) (hc : c ≤ 8) {d : Nat} {Q : z_St → Option z_V → Prop}
    (k1 : ∀ i, fn_kept (fn_stale A) P = some i → ∀ σ, w_M T σ (fn_send (fn_page (fn_stale A) (fn_again (vL (fn_stale A) 10 i) (pH P))) c) → Q σ (some (.inl 1)))
    (k0 : fn_kept (fn_stale A) P = none → ∀ σ, w_M T σ (fn_stale A) → Q σ (some (.inl 0))) : wp (zD (d + 4) 153 [.inr (.inr (some (8, 0))), .inl (Int32.ofNat c)] σ) Q := by
  refine wp_eq (c153 ..) (wp_eq (e153_0 ..) (wp_cv (mc_stale (d := d) hM hB hT fun σ hM => ⟨rfl, ?_⟩)))
  have hBB : z_B n (fn_stale A) := stl_B _ _ hB
  have hPB : vP (fn_stale A) = some P := (stl_P _ _).trans hP
  have eIN : vI (fn_stale A) 64 = vI A 64 := funext fun i => stl_I (by decide) i _ _
  have hrB : z_rP (vI (fn_stale A) 64) P := by rw [eIN]; exact hr
  generalize fn_stale A = B at *
  have hb := hBB.1
  have hm := rm_msg hM hPB
  obtain ⟨hpc1, hpc8⟩ := rP_C hrB
  obtain ⟨y, hy, g1, g2, g3⟩ := mm_host hM hPB hrB hw
  have loop : ∀ (m j : Nat), j + m = vN B 4 0 → fn_kept B P = fn_from (fun k => decide (vI B 18 k = pE P) && fn_isT (vI B 64) P 264 (vL B 11 k)) m j → wp (E xP153 (zD (d + 3)) 1 [some (.inr (.inr (some (8, 0)))), some (.inl (Int32.ofNat c)), some (.inl (Int32.ofNat j)), none] [] σ) Q := by
    intro m
    induction m with
    | zero =>
      intro j hj hf
      refine wp_eq (e153_1 ..) ?_
      rw [rm_KEPTS hM]
      refine wp_if (fun _ => wp_eq (e153_12 ..) (wp_ret (k0 hf σ hM))) (fun h => ?_)
      rw [io_le (by omega) (by omega)] at h
      omega
    | succ m ih =>
      intro j hj hf
      have hj31 : j < 2147483648 := by omega
      have hj41 : 41 * j < 2147483648 := by omega
      obtain ⟨q1, q2, q3, q4, q5⟩ := (rm_K hM) j (by omega)
      have hok := K_ok hBB (k := j) (by omega)
      have h20 := (hBB.2.2.2.2.2.2.2.2.2.2.2.1 j (by omega)).2.2.1
      have next : ¬ (decide (vI B 18 j = pE P) && fn_isT (vI B 64) P 264 (vL B 11 j)) = true → wp (E xP153 (zD (d + 3)) 11 [some (.inr (.inr (some (8, 0)))), some (.inl (Int32.ofNat c)), some (.inl (Int32.ofNat j)), none] [] σ) Q := by
        intro h
        rw [from_n h] at hf
        refine wp_eq (e153_11 ..) ?_
        rw [io_add_l]
        exact ih (j + 1) (by omega) hf
      refine wp_eq (e153_1 ..) ?_
      rw [rm_KEPTS hM]
      refine wp_if (fun h => ?_) (fun _ => ?_)
      · rw [io_le (by omega) (by omega)] at h
        omega
      refine wp_eq (e153_2 ..) (wp_ar (rm_p63 hM) aty_61867056 alen_61867056 rfl (by omega) (by decide) ?_)
      dsimp only
      rw [io_nat hj31, q1, hm.2.2.2.2.2.1]
      refine wp_if (fun he => ?_) (fun he => next (by rw [decide_eq_false he]; simp))
      have ey : (41 : Int32) * Int32.ofNat j = Int32.ofNat (41 * j) := io_mul 41 j
      refine wp_eq (e153_3 ..) ?_
      simp only [ey]
      refine (wp_ar (k := 41 * j) (rm_p62 hM) aty_60860721 alen_60860721 rfl (by omega) (by decide) ?_)
      dsimp only
      rw [io_nat hj41, q3.1, rm_p62 hM, io_add_l]
      refine wp_cr (mw_isText (d := d + 2) (c := pC P) (k := 1) (f := 41 * j + 1) (l := vL B 11 j) hM hm.1 hpc8 (by decide) g1 g2 g3 aty_60860721 hok.1.1 (by have := hok.1.1; rw [alen_60860721]; omega) (by rw [alen_60860721]; decide) q3.2 rfl rfl rfl ⟨_, rfl, wp_asI0 ?_⟩)
      have hTT := isT_some (r := vI B 64) (l := vL B 11 j) hy
      refine wp_if (fun q => ?_) (fun q => ?_) <;> rw [b2i_0] at q
      · exact next (by rw [hTT, decide_eq_false q]; simp)
      have q := Classical.not_not.mp q
      rw [from_y (by rw [hTT, decide_eq_true q, decide_eq_true he]; rfl)] at hf
      have k1 := k1 j hf
      refine wp_eq (e153_4 ..) (wp_ar (rm_p61 hM) aty_59769904 alen_59769904 rfl (by omega) (by decide) ?_)
      simp only [io_nat hj31]
      rw [q4]
      refine wp_sw ?_
      have p60 := rm_p60 hM
      have p65 := rm_p65 hM
      have hcp := ml_acopy (σ := wI σ 8 66 0 (Int32.ofNat (vL B 10 j).length)) (d := d) (i := j) (c := c) (L := (vL B 10 j).length) (by omega) hok.2.1 (by rw [gI_wI, if_pos ⟨rfl, rfl, rfl⟩]) p60 p65 (Q := Q) (k := ?_) (vL B 10 j).length 0 (by omega)
      · rw [cp_0, rI_id] at hcp
        exact hcp
      have hM2 := m_PGk hM (f := fn_cp (gI (wI σ 8 66 0 (Int32.ofNat (vL B 10 j).length)) 59058193 0) (320 * j) 0 (gI (wI σ 8 66 0 (Int32.ofNat (vL B 10 j).length)) 63985553 0) (vL B 10 j).length) (vL B 10 j) (fun i hi hn => by
        unfold fn_cp
        rw [if_pos (by omega), Nat.sub_zero]
        have : gI (wI σ 8 66 0 (Int32.ofNat (vL B 10 j).length)) 59058193 0 (320 * j + i) = (vL B 10 j)[i] := q5 i hi hn
        rw [this]
        exact hok.2.2 _ (List.getElem_mem hi))
      generalize rI (wI σ 8 66 0 (Int32.ofNat (vL B 10 j).length)) 63985553 0 _ = σ2 at hM2
      have hok2 : (vL B 10 j).length ≤ 300 ∧ z_by (vL B 10 j) := hok.2
      generalize hcell : vL B 10 j = l at *
      have step : ∀ i (σ : z_St) (l : List Int32), i < 4 → w_M T σ (fn_page B l) → (∀ σ, w_M T σ (fn_page B (l.set (12 + i) (by8 (pH P) (Int32.ofNat (3 - i))))) → wp (E xP153 (zD (d + 3)) 8 [some (.inr (.inr (some (8, 0)))), some (.inl (Int32.ofNat c)), none, some (.inl (Int32.ofNat (i + 1)))] [] σ) Q) → wp (E xP153 (zD (d + 3)) 8 [some (.inr (.inr (some (8, 0)))), some (.inl (Int32.ofNat c)), none, some (.inl (Int32.ofNat i))] [] σ) Q := by
        intro i σ l hi hM kk
        refine wp_eq (e153_8 ..) (wp_if (fun h => ?_) (fun _ => ?_))
        · rw [io_lle (by omega) (by decide)] at h
          have h : 4 ≤ i := h
          omega
        have e12 : (12 : Int32) + Int32.ofNat i = Int32.ofNat (12 + i) := io_add 12 i
        have em : ∀ i, i < 4 → ((24 - 8 * Int32.ofNat i) &&& 31 : Int32) = (8 * Int32.ofNat (3 - i) &&& 31) := by decide
        refine wp_eq (e153_9 ..) ?_
        simp only [e12]
        refine (wp_ar (k := 12 + i) (rm_p65 hM) aty_63985553 alen_63985553 rfl (by omega) (by decide) ?_)
        rw [io_nat (by omega), em i hi, (rm_msg hM (P := P) hPB).2.2.2.2.1, nb_un, nb_un, nb_nb, io_add_l]
        exact wp_swM (m_PGs hM (12 + i) (by8 (pH P) (Int32.ofNat (3 - i)))) fun σ hM => kk σ hM
      refine wp_eq (e153_7 ..) (step 0 σ2 l (by decide) hM2 fun σ hM => step 1 σ _ (by decide) hM fun σ hM => step 2 σ _ (by decide) hM fun σ hM => step 3 σ _ (by decide) hM fun σ hM => ?_)
      have hM : w_M T σ (fn_page B ((((l.set 12 (by8 (pH P) 3)).set 13 (by8 (pH P) 2)).set 14 (by8 (pH P) 1)).set 15 (by8 (pH P) 0))) := hM
      rw [again_set h20] at hM
      refine wp_eq (e153_8 ..) (wp_if (fun _ => ?_) (fun h => absurd (by decide) h))
      refine wp_eq (e153_10 ..) (cvM (fun Q' k => mc_go (d := d + 2) hM hc1 hc ?_ ?_ ?_ k) fun σ hM => wp_ret (k1 σ hM))
      · rw [fn_page_PG, again_len h20]; omega
      · rw [fn_page_PG, again_len h20]; have := hok2.1; omega
      · rw [fn_page_PG]; exact again_by hok2.2 _
  exact loop (vN B 4 0) 0 (by omega) (fn_first_from _ _)
theorem wm_GR0 {T σ : z_St} {A : w_A} (h : w_M T σ A) : w_M T (wI σ 8 89 0 0) (sN A 16 0 0) := by
  obtain ⟨hT, hA, hB, hC, hD, hG, hH, hI, hJ, hK, hL, hM, hN⟩ := h
  refine ⟨m_T_wI hT (.inl rfl), hA, hB, hC, hD, hG, hH, hI, hJ, hK, hL, hM, ⟨fun _ => rfl, fun r _ q => ?_⟩⟩
  have q : (0 : Nat) = r + 1 := q
  omega
theorem wm_GR99 {T σ : z_St} {A : w_A} (h : w_M T σ A) : w_M T σ (sN A 16 0 99) := by
  obtain ⟨hT, hA, hB, hC, hD, hG, hH, hI, hJ, hK, hL, hM, hN⟩ := h
  refine ⟨hT, hA, hB, hC, hD, hG, hH, hI, hJ, hK, hL, hM, ⟨fun q => ?_, fun r hr q => ?_⟩⟩
  · have q : (99 : Nat) = 0 := q
    omega
  · have q : (99 : Nat) = r + 1 := q
    omega
theorem wm_88 {T σ : z_St} {A : w_A} (h : w_M T σ A) (x : Int32) : w_M T (wI σ 8 88 0 x) A := by
  obtain ⟨hT, hA, hB, hC, hD, hG, hH, hI, hJ, hK, hL, hM, hN⟩ := h
  exact ⟨m_T_wI hT (.inl rfl), hA, hB, hC, hD, hG, hH, hI, hJ, hK, hL, hM, hN⟩
theorem mc_credit {T σ : z_St} {A : w_A} (hM : w_M T σ A) {P : w_P} (hP : vP A = some P) (hr : z_rP (vI A 64) P) (hw : pW P = 0) (hrq : fn_req P) (hm272 : pM P = 272) {n p c : Nat} (hB : z_B n A) (hT : z_KT A) (hS1 : z_S1 A) (hS2 : z_S2 A) (hSN : z_SN A) (hpp : p < vN A 0 0) (hc1 : 1 ≤ c) (hc : c ≤ 8) {d : Nat} {Q : z_St → Option z_V → Prop} (k : ∀ σ, w_M T σ (fn_credit A c p P) → Q σ none) : wp (zD (d + 8) 144 [.inr (.inr (some (8, 0))), .inl (Int32.ofNat c), .inl (Int32.ofNat p)] σ) Q := by
  unfold fn_credit at k
  dsimp only at k
  have hBB : z_B n (fn_stale A) := stl_B _ _ hB
  have hPB : vP (fn_stale A) = some P := (stl_P _ _).trans hP
  have eIN : vI (fn_stale A) 64 = vI A 64 := funext fun i => stl_I (by decide) i _ _
  have hrB : z_rP (vI (fn_stale A) 64) P := by rw [eIN]; exact hr
  have hN : ∀ {v : Nat}, v ≠ 4 → v ≠ 15 → v ≠ 18 → ∀ i, vN (fn_stale A) v i = vN A v i := fun h1 h2 h3 i => stl_N h1 h2 h3 i _ _
  have hI : ∀ {v : Nat}, v ≠ 18 → ∀ i, vI (fn_stale A) v i = vI A v i := fun h1 i => stl_I h1 i _ _
  have hJ : ∀ v i, vJ (fn_stale A) v i = vJ A v i := fun v i => stl_J v i _ _
  have hL : ∀ {v : Nat}, v ≠ 10 → v ≠ 11 → ∀ i, vL (fn_stale A) v i = vL A v i := fun h1 h2 i => stl_L h1 h2 i _ _
  have hSNB : z_SN (fn_stale A) := fun r hr => by
    rw [hN (by decide) (by decide) (by decide)] at hr
    rw [hL (by decide) (by decide), hL (by decide) (by decide), hL (by decide) (by decide)]
    exact hSN r hr
  have hS1B : z_S1 (fn_stale A) := fun s hs => by
    rw [hN (by decide) (by decide) (by decide)] at hs
    rw [hN (v := 13) (by decide) (by decide) (by decide), hN (v := 1) (by decide) (by decide) (by decide), hJ, hN (v := 0) (by decide) (by decide) (by decide), hI (v := 20) (by decide), hI (v := 21) (by decide), hN (v := 5) (by decide) (by decide) (by decide)]
    exact hS1 s hs
  have hS2B : z_S2 (fn_stale A) := fun a ha => by
    rw [hN (by decide) (by decide) (by decide)] at ha
    have e : (fun s => if vN (fn_stale A) 13 s = a + 1 then (vJ (fn_stale A) 5 s).toInt else 0) = (fun s => if vN A 13 s = a + 1 then (vJ A 5 s).toInt else 0) := by
      funext s
      rw [hN (v := 13) (by decide) (by decide) (by decide), hJ]
    rw [hJ, hJ, e, hN (v := 2) (by decide) (by decide) (by decide)]
    exact hS2 a ha
  have hpB : p < vN (fn_stale A) 0 0 := by rw [hN (by decide) (by decide) (by decide)]; exact hpp
  rw [← eIN] at k
  refine wp_eq (c144 ..) (wp_eq (e144_0 ..) (wp_cr (mc_again (d := d + 3) hM hP hr hw hB hT hc1 hc (fun i hi σ hM => ⟨_, rfl, wp_asI0 ?_⟩) (fun hi σ hM => ⟨_, rfl, wp_asI0 ?_⟩))))
  · rw [hi] at k
    exact wp_if (fun q => absurd q (by decide)) (fun _ => wp_eq (e144_1 ..) (wp_ret (k σ hM)))
  rw [hi] at k
  dsimp only at k
  generalize fn_stale A = B at *
  obtain ⟨hcc1, hcc8⟩ := rP_C hrB
  obtain ⟨h263, h416, h415⟩ := rP_cred hrB hw hrq hm272
  refine wp_if (fun _ => ?_) (fun q => absurd rfl q)
  refine wp_eq (e144_2 ..) (wp_swM (wm_GR0 hM) fun σ hM => wp_swM (wm_ENOUGH hM (-1)) fun σ hM => ?_)
  have hg0 : ∀ r, r < 16 → ¬ vN (sI (sN B 16 0 0) 19 0 (-1)) 16 0 = r + 1 := fun r _ e => absurd (show (0 : Nat) = r + 1 from e) (by omega)
  refine wp_cr (mc_decide (d := d) hM (P := P) hPB hrB hw h263 h416 h415 (n := n) hBB hS1B hS2B hSNB hg0 fun σ hM => ⟨_, rfl, wp_asI0 ?_⟩)
  obtain ⟨hdf, hdg⟩ := decide_df (sI (sN B 16 0 0) 19 0 (-1)) P p
  have hdg := hdg (show vN B 2 0 ≤ 16 by have := hBB.1; omega)
  have hdk := decide_dk (A := sI (sN B 16 0 0) 19 0 (-1)) (P := P) (p := p) (n := n) hBB hS1B hS2B hSNB hrB hpB
  generalize hR : fn_decide (sI (sN B 16 0 0) 19 0 (-1)) P p = R at *
  obtain ⟨D, res⟩ := R
  dsimp only at *
  have hDB : z_B n D := dk_B hdk hBB
  have hPD : vP D = some P := hdf.2.2.2.trans hPB
  have eIN : vI D 64 = vI B 64 := funext fun i => hdf.1 _ i (by decide) (by decide) (by decide)
  have hrD : z_rP (vI D 64) P := by rw [eIN]; exact hrB
  obtain ⟨hH1, hH2⟩ := hDB.2.2.2.2.2.2.2.1
  have hIBD := hDB.2.2.2.2.2.2.2.2.2.2.2.2
  have hlen := fn_ans_len (res := res) hrD hH1
  have hby := fn_ans_by (res := res) hrD hIBD hH2
  have hM := wm_88 hM res
  refine wp_sw ?_
  rw [show gI (wI σ 8 88 0 res) 8 88 0 = res from rfl]
  refine cvM (fun Q' k => mc_ans (d := d + 2) hM hPD hrD hH1 hH2 hIBD k) fun σ hM => ?_
  refine cvM (fun Q' k => mc_num (d := d + 4) hM (by omega) k) fun σ hM => ?_
  have n32 : ∀ a, (un4 (vI D 64) (pC P) a).toInt32 = n4 (vI D 64) (pC P) a := fun a => by rw [← gw4u, gw4]
  obtain ⟨a5, g1, g2, g3⟩ := mm_num hM (P := P) hPD hrD (i := 5) (code := 416) (by decide) rfl (by decide) h416
  refine (wp_ar (k := 5) (rm_p77 hM) aty_66060688 alen_66060688 rfl (by decide) (by decide) ?_)
  dsimp only
  rw [show (5 : Int32).toNatClampNeg = 5 from by decide, g1]
  refine wp_cr (mw_n4 (d := d + 5) (c := pC P) (k := a5) hM (rm_msg hM (P := P) hPD).1 hcc8 g2 rfl ⟨_, rfl, ?_⟩)
  refine cvM (fun Q' k => mc_num (d := d + 4) hM (by rw [List.length_append, fn_num_len]; omega) k) fun σ hM => ?_
  obtain ⟨a6, f1, f2, f3⟩ := mm_num hM (P := P) hPD hrD (i := 6) (code := 415) (by decide) rfl (by decide) h415
  refine (wp_ar (k := 6) (rm_p77 hM) aty_66060688 alen_66060688 rfl (by decide) (by decide) ?_)
  dsimp only
  rw [show (6 : Int32).toNatClampNeg = 6 from by decide, f1]
  refine wp_cr (mw_n4 (d := d + 5) (c := pC P) (k := a6) hM (rm_msg hM (P := P) hPD).1 hcc8 f2 rfl ⟨_, rfl, ?_⟩)
  refine cvM (fun Q' k => mc_num (d := d + 4) hM (by rw [List.length_append, List.length_append, fn_num_len, fn_num_len]; omega) k) fun σ hM => ?_
  have g3 : fn_n (vI D 64) P 416 = un4 (vI D 64) (pC P) a5 := g3
  have f3 : fn_n (vI D 64) P 415 = un4 (vI D 64) (pC P) a6 := f3
  have hM : w_M T σ (fn_page D (fn_ans D P res ++ fn_num 258 4 ++ fn_num 416 (n4 (vI D 64) (pC P) a5) ++ fn_num 415 (n4 (vI D 64) (pC P) a6))) := hM
  rw [← n32, ← n32, ← g3, ← f3, eIN] at hM
  generalize hl1 : fn_ans D P res ++ fn_num 258 4 ++ fn_num 416 (fn_n (vI B 64) P 416).toInt32 ++ fn_num 415 (fn_n (vI B 64) P 415).toInt32 = l1 at *
  have l1len : 20 ≤ l1.length ∧ l1.length ≤ 178 := by
    rw [← hl1, List.length_append, List.length_append, List.length_append, fn_num_len, fn_num_len, fn_num_len]
    omega
  have l1by : z_by l1 := by
    rw [← hl1]
    exact z_by_app (z_by_app (z_by_app hby (fn_num_by _ _)) (fn_num_by _ _)) (fn_num_by _ _)
  have fin : ∀ σ l, w_M T σ (fn_page D l) → 20 ≤ l.length → l.length ≤ 300 → z_by l → (∀ σ, w_M T σ (sN (fn_send (fn_keep (fn_page D l) P) c) 16 0 99) → Q σ none) → wp (E xP144 (zD (d + 7)) 6 [some (.inr (.inr (some (8, 0)))), some (.inl (Int32.ofNat c)), none] [] σ) Q := by
    intro σ l hM h20 h300 hlb kk
    have epg : vL (fn_page D l) 12 0 = l := fn_page_PG D l
    refine wp_eq (e144_6 ..) (wp_cv (mc_keep (d := d + 4) (n := n) hM hPD hrD hw hDB (by rw [epg]; exact h300) (by rw [epg]; exact hlb) fun σ hM => ⟨rfl, ?_⟩))
    have epk : vL (fn_keep (fn_page D l) P) 12 0 = l := by
      unfold fn_keep
      dsimp only
      show vL (if vN (fn_page D l) 4 0 = 32 then fn_drop1 (fn_page D l) else fn_page D l) 12 0 = l
      split
      · exact epg
      · exact epg
    exact wp_cv (mc_go (d := d + 6) hM hc1 hc (by rw [epk]; omega) (by rw [epk]; omega) (by rw [epk]; exact hlb) fun σ hM => ⟨rfl, wp_ret (kk σ (wm_GR99 hM))⟩)
  have fin4 : ∀ σ l, w_M T σ (fn_page D l) → 20 ≤ l.length → l.length ≤ 280 → z_by l → (∀ σ, w_M T σ (sN (fn_send (fn_keep (fn_page D (l ++ (if 0 ≤ vI D 19 0 then fn_num 422 (vI D 19 0) else []))) P) c) 16 0 99) → Q σ none) → wp (E xP144 (zD (d + 7)) 4 [some (.inr (.inr (some (8, 0)))), some (.inl (Int32.ofNat c)), none] [] σ) Q := by
    intro σ l hM h20 h300 hlb kk
    have een : gI σ 8 91 0 = vI D 19 0 := by
      have := rm_ENOUGH hM
      exact this
    refine wp_eq (e144_4 ..) (wp_if (fun h => ?_) (fun h => ?_)) <;> rw [een] at h
    · rw [if_neg (Int32.not_le.mpr h)] at kk
      exact fin σ l hM h20 (by omega) hlb (by rw [List.append_nil] at kk; exact kk)
    · rw [if_pos (Int32.not_lt.mp h)] at kk
      refine wp_eq (e144_5 ..) ?_
      rw [een]
      refine cvM (fun Q' k => mc_num (d := d + 4) hM (by omega) k) fun σ hM => ?_
      exact fin σ _ hM (by rw [List.length_append, fn_num_len]; omega) (by rw [List.length_append, fn_num_len]; omega) (z_by_app hlb (fn_num_by _ _)) kk
  have hgr := rm_N hM
  rcases hdg.2 with g0 | ⟨s, hs, hs16, gs⟩
  · have g0 : vN D 16 0 = 0 := g0
    rw [if_pos g0, List.append_nil] at k
    refine wp_if (fun _ => fin4 σ l1 hM (by omega) (by omega) l1by k) (fun q => absurd (hgr.1 g0) q)
  · have gr := hgr.2 s hs16 gs
    rw [if_neg (show ¬ vN D 16 0 = 0 by omega), gs, Nat.add_sub_cancel] at k
    refine wp_if (fun q => absurd (gr.1.symm.trans q) (by decide)) (fun _ => ?_)
    refine wp_eq (e144_3 ..) ?_
    refine cvM (fun Q' k => mc_attr (d := d + 5) hM 16 rfl (by omega) k) fun σ hM => ?_
    refine cvM (fun Q' k => mc_attr (d := d + 5) hM 8 rfl (by rw [List.length_append, fn_attr_len]; omega) k) fun σ hM => ?_
    rw [show gJ σ 8 90 0 = vJ D 5 s from ((rm_N hM).2 s hs16 gs).2, show (32 : Int32).toInt64 &&& 63 = 32 from by decide]
    refine cvM (fun Q' k => mc_put (d := d + 6) hM 4 rfl (by rw [List.length_append, List.length_append, fn_attr_len, fn_attr_len]; omega) (by decide) k) fun σ hM => ?_
    rw [show gJ σ 8 90 0 = vJ D 5 s from ((rm_N hM).2 s hs16 gs).2]
    refine cvM (fun Q' k => mc_put (d := d + 6) hM 4 rfl (by rw [List.length_append, List.length_append, List.length_append, fn_attr_len, fn_attr_len, bI_len]; omega) (by decide) k) fun σ hM => ?_
    refine cvM (fun Q' k => mc_num (d := d + 4) hM (by rw [List.length_append, List.length_append, List.length_append, List.length_append, fn_attr_len, fn_attr_len, bI_len, bI_len]; omega) k) fun σ hM => ?_
    have ulen : (fn_attr 431 16 ++ fn_attr 421 8 ++ b4 (vJ D 5 s >>> 32).toInt32 ++ b4 (vJ D 5 s).toInt32).length = 24 := rfl
    have el : l1 ++ fn_attr 431 16 ++ fn_attr 421 8 ++ bI (vJ D 5 s >>> 32).toInt32 4 ++ bI (vJ D 5 s).toInt32 4 ++ fn_num 448 600 = l1 ++ (fn_attr 431 16 ++ fn_attr 421 8 ++ b4 (vJ D 5 s >>> 32).toInt32 ++ b4 (vJ D 5 s).toInt32 ++ fn_num 448 600) := by
      simp only [List.append_assoc]
      rfl
    rw [el] at hM
    refine fin4 σ _ hM ?_ ?_ ?_ k
    · rw [List.length_append]; omega
    · rw [List.length_append, List.length_append, ulen, fn_num_len]; omega
    · exact z_by_app l1by (z_by_app (z_by_app (z_by_app (z_by_app (fn_attr_by _ _) (fn_attr_by _ _)) (b4_by _)) (b4_by _)) (fn_num_by _ _))
