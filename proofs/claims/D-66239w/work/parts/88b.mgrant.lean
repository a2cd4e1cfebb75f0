/-! PART 88b (src 88b.mgrant.src): the twin notes, grants, begins, goes on, ends, counts -/
set_option maxHeartbeats 800000
def z_uv (A : w_A) (P : w_P) (g : Int32) (y : Int64) : Int64 := match fn_inside (vI A 64) P g 421 with
  | some q => n8 (vI A 64) (pC P) q.1
  | none => y
theorem uv_eq {A : w_A} {P : w_P} {g : Int32} (h : fn_right (vI A 64) P g) (y : Int64) : z_uv A P g y = if fn_units (vI A 64) P g < 0 then y else fn_units (vI A 64) P g := by
  unfold z_uv
  unfold fn_right at h
  unfold fn_units at h ⊢
  cases e : fn_inside (vI A 64) P g 421 with
  | none => rfl
  | some q =>
    rw [e] at h
    dsimp only at h ⊢
    rw [if_neg]
    exact Int64.not_lt.mpr (h.resolve_left (by simp)).1
theorem uv_right {A : w_A} {P : w_P} {g : Int32} : fn_right (vI A 64) P g ↔ (0 ≤ z_uv A P g 0 ∧ z_uv A P g 0 ≤ 1152921504606846976) := by
  unfold fn_right z_uv fn_units
  cases fn_inside (vI A 64) P g 421 with
  | none => simp
  | some q => simp
theorem mc_uv {T σ : z_St} {A : w_A} (hM : w_M T σ A) {P : w_P} (hP : vP A = some P) (hr : z_rP (vI A 64) P) {g : Int32} (hg : fn_kind g = 5) {x : Int32} (hx : m_in x (fn_inside (vI A 64) P g 421)) {d : Nat} {y : Int64} {Q : z_St → Option z_V → Prop} (k : Q σ (some (.inr (.inl (z_uv A P g y))))) : wp (zD (d + 4) 142 [.inr (.inr (some (8, 0))), .inl x, .inr (.inl y)] σ) Q := by
  obtain ⟨hc1, hc8⟩ := rP_C hr
  have e : z_uv A P g y = (fn_inside (vI A 64) P g 421).elim y fun q => n8 (vI A 64) (pC P) q.1 := by
    unfold z_uv
    cases fn_inside (vI A 64) P g 421 <;> rfl
  rw [e] at k
  refine mc_units hM (rm_msg hM hP).1 hc8 hx (fun q hq => ?_) k
  have := rP_ins hr hg (code := 421) (by decide) hq
  have h3 := this.2.2
  have e : fn_fits (fn_kind 421) q.2 = (q.2 = 8) := by
    rw [show fn_kind 421 = 3 from by decide]
    unfold fn_fits
    simp
  rw [e] at h3
  omega
theorem wm_GR {T σ : z_St} {A : w_A} (h : w_M T σ A) {s : Nat} (hs : s < 16) {x : Int64} (hx : x = vJ A 5 s) : w_M T (wJ (wI σ 8 89 0 1) 8 90 0 x) (sN A 16 0 (s + 1)) := by
  subst hx
  obtain ⟨hT, hA, hB, hC, hD, hG, hH, hI, hJ, hK, hL, hM, hN⟩ := h
  have e : vN (sN A 16 0 (s + 1)) 16 0 = s + 1 := by rw [vN_sN, if_pos ⟨rfl, rfl⟩]
  refine ⟨m_T_wJ (m_T_wI hT (.inl rfl)) (.inl rfl), hA, hB, hC, hD, hG, hH, hI, hJ, hK, hL, hM, ⟨fun q => ?_, fun r hr q => ?_⟩⟩
  · have q : vN (sN A 16 0 (s + 1)) 16 0 = 0 := q
    rw [e] at q
    omega
  · have q : vN (sN A 16 0 (s + 1)) 16 0 = r + 1 := q
    rw [e] at q
    have : r = s := by omega
    subst this
    exact ⟨rfl, rfl⟩
theorem taken_of {r : Nat → Int32} {P : w_P} {code : Int32} {q : w_Q} (h : fn_find (pN P) code = some q) : fn_taken r P code = fn_text r (pC P) q.2.1 q.2.2 := by
  unfold fn_taken
  rw [h]
theorem mc_of {T σ : z_St} {A : w_A} (hM : w_M T σ A) {P : w_P} (hP : vP A = some P) (hr : z_rP (vI A 64) P) (hw : pW P = 0) (h415 : (fn_find (pN P) 415).isSome = true) (hIB : ∀ k, nb (vI A 64 k) = vI A 64 k) {s p : Nat} (hs : s < 16) (hz2 : ∀ r, r < vN A 2 0 → (vL A 5 r).length ≤ 40) (hz3 : ∀ r, r < vN A 2 0 → (vL A 6 r).length ≤ 40) {d : Nat} {x1 x2 : Int32} (h1 : x1 = Int32.ofNat s) (h2 : x2 = Int32.ofNat p) {Q : z_St → Option z_V → Prop} (k : ∀ σ, w_M T σ (sI (fn_note A P p s) 21 s (Int32.ofNat (vN A 5 0 + 600))) → Q σ none) : wp (zD (d + 4) 146 [.inr (.inr (some (8, 0))), .inl x1, .inl x2] σ) Q := by
  subst h1 h2
  have hs31 : s < 2147483648 := by omega
  obtain ⟨hc1, hc8⟩ := rP_C hr
  obtain ⟨q4, hq4⟩ := some_of (rP_host hr hw).1
  obtain ⟨q6, hq6⟩ := some_of (rP_host hr hw).2
  have b4 := rP_txt hr (by decide) q4 hq4
  have b6 := rP_txt hr (by decide) q6 hq6
  have hy : (41 : Int32) * Int32.ofNat s = Int32.ofNat (41 * s) := io_mul 41 s
  refine wp_eq (c146 ..) (wp_eq (e146_0 ..) (wp_cr (mc_count (d := d) hM hP hr h415 ⟨_, rfl, wp_asJ0 ?_⟩)))
  refine (wp_ar (rm_p46 hM) aty_46137875 alen_46137875 rfl (by omega) (by decide) ?_)
  simp only [io_nat hs31]
  refine wp_swM (wm_SCOUNT hM s _) fun σ hM => (wp_ar (rm_p47 hM) aty_47186448 alen_47186448 rfl (by omega) (by decide) ?_)
  simp only [io_nat hs31]
  rw [io_add_l]
  refine wp_swM (wm_SPEER hM s _) fun σ hM => (wp_ar (rm_p48 hM) aty_48235024 alen_48235024 rfl (by omega) (by decide) ?_)
  simp only [io_nat hs31]
  rw [rm_NOW hM, io_add_l]
  refine wp_swM (wm_SEND hM s _) fun σ hM => wp_cv ?_
  have hP1 : vP (sI (sI (sJ A 6 s (fn_n (vI A 64) P 415)) 20 s (Int32.ofNat (p + 1))) 21 s (Int32.ofNat (vN A 5 0 + 600))) = some P := hP
  have g4 := (mm_key (rm_msg hM hP1) (k := 1) (by decide)).2 q4 hq4
  rw [rm_p42 hM, hy]
  refine mc_copyText (d := d + 2) (c := pC P) (k := 1) hM (rm_msg hM hP1).1 hc8 (by decide) g4.1 g4.2 b4.1 b4.2.2 hIB aty_41964049 (by rw [alen_41964049]; omega) (by rw [alen_41964049]; decide) (by decide) rfl rfl fun f f1 f2 f3 => ⟨rfl, ?_⟩
  have hM := wm_SHOST hM (s := s) hs hz2 (l := fn_taken (vI A 64) P 264) (by rw [taken_of hq4, text_len]; exact b4.2.2) (by rw [taken_of hq4, text_len]; exact f1) (by rw [taken_of hq4]; exact f2) f3
  generalize rI σ 41964049 0 f = σ at hM
  have g6 := (mm_key (rm_msg hM (P := P) hP) (k := 2) (by decide)).2 q6 hq6
  refine wp_cv ?_
  rw [rm_p43 hM]
  refine mc_copyText (d := d + 2) (c := pC P) (k := 2) hM (rm_msg hM (P := P) hP).1 hc8 (by decide) g6.1 g6.2 b6.1 b6.2.2 hIB aty_43012625 (by rw [alen_43012625]; omega) (by rw [alen_43012625]; decide) (by decide) rfl rfl fun f f1 f2 f3 => ⟨rfl, ?_⟩
  have hM := wm_SREALM hM (s := s) hs hz3 (l := fn_taken (vI A 64) P 296) (by rw [taken_of hq6, text_len]; exact b6.2.2) (by rw [taken_of hq6, text_len]; exact f1) (by rw [taken_of hq6]; exact f2) f3
  exact wp_ret (k _ hM)
theorem mc_grantN {T σ : z_St} {A : w_A} (hM : w_M T σ A) {P : w_P} (hP : vP A = some P) (hr : z_rP (vI A 64) P) (hw : pW P = 0) (hR : fn_right (vI A 64) P 437) (hg : ∀ r, r < 16 → ¬ vN A 16 0 = r + 1) {s : Nat} (hs : s < vN A 2 0) (hl : vN A 2 0 ≤ 16) (ha : 1 ≤ vN A 13 s ∧ vN A 13 s ≤ 16) (hend : vI A 21 s = Int32.ofNat (vN A 5 0 + 600)) {d : Nat} {x1 : Int32} (h1 : x1 = Int32.ofNat s) {Q : z_St → Option z_V → Prop} (k : ∀ σ, w_M T σ (fn_grant A P s) → Q σ none) : wp (zD (d + 5) 147 [.inr (.inr (some (8, 0))), .inl x1] σ) Q := by
  subst h1
  have hs31 : s < 2147483648 := by omega
  obtain ⟨a, haa⟩ : ∃ a, a = vN A 13 s - 1 := ⟨_, rfl⟩
  have ha16 : a < 16 := by omega
  have ha31 : a < 2147483648 := by omega
  have rac := rm_SACC hM hs
  rw [← haa] at rac
  have hin := (rm_msg hM hP).2.2.2.2.2.2.2.2.2 hw
  refine wp_eq (c147 ..) (wp_eq (e147_0 ..) (wp_ar (rm_p44 hM) aty_44040720 alen_44040720 rfl (by omega) (by decide) ?_))
  dsimp only
  rw [io_nat hs31, rac]
  refine wp_cr (mc_uv (d := d) (g := 437) hM hP hr (by decide) hin.2.2.2.1 ⟨_, rfl, wp_asJ0 ?_⟩)
  refine wp_cr (mc_free (d := d + 3) hM ha16 rfl ⟨_, rfl, wp_asJ0 ?_⟩)
  rw [uv_eq hR, rm_p45 hM]
  obtain ⟨w, hww⟩ : ∃ w, w = (if fn_units (vI A 64) P 437 < 0 then 1000 else fn_units (vI A 64) P 437) := ⟨_, rfl⟩
  rw [← hww]
  obtain ⟨g, hgg⟩ : ∃ g, g = (if fn_free A a < w then fn_free A a else w) := ⟨_, rfl⟩
  have e3 : wp (E xP147 (zD (d + 4)) 3 [some (.inr (.inr (some (8, 0)))), some (.inl (Int32.ofNat s)), some (.inl (Int32.ofNat a)), none, none] [.inr (.inl g), .inl (Int32.ofNat s), .inr (.inr (some (45089299, 0)))] σ) Q := by
    refine wp_eq (e147_3 ..) (wp_ar (k := s) rfl aty_45089299 alen_45089299 rfl (by omega) (by decide) ?_)
    simp only [io_nat hs31]
    refine wp_swM (wm_SGRANT hM s hg g) fun σ hM => (wp_ar (rm_p38 hM) aty_38797843 alen_38797843 rfl (by omega) (by decide) (wp_ar (rm_p45 hM) aty_45089299 alen_45089299 rfl (by omega) (by decide) (wp_ar (rm_p38 hM) aty_38797843 alen_38797843 rfl (by omega) (by decide) ?_)))
    simp only [io_nat hs31, io_nat ha31]
    have hs2 : s < vN (sJ A 5 s g) 2 0 := hs
    have eg : vJ (sJ A 5 s g) 5 s = g := by rw [vJ_sJ, if_pos ⟨rfl, rfl⟩]
    have er : vJ (sJ A 5 s g) 2 a = vJ A 2 a := rfl
    rw [rm_ARES hM, rm_SGRANT hM hs2, eg, er]
    refine wp_swM (wm_ARES hM a _) fun σ hM => wp_sw ?_
    have h45 := rm_p45 hM
    refine (wp_ar (k := s) h45 aty_45089299 alen_45089299 rfl (by omega) (by decide) ?_)
    simp only [io_nat hs31]
    have hs3 : s < vN (sJ (sJ A 5 s g) 2 a (vJ A 2 a + g)) 2 0 := hs
    have eg3 : vJ (sJ (sJ A 5 s g) 2 a (vJ A 2 a + g)) 5 s = g := eg
    have rg := rm_SGRANT hM hs3
    rw [show gJ (wI σ 8 89 0 1) 45089299 0 s = gJ σ 45089299 0 s from rfl, rg, eg3]
    have hM := wm_GR hM (s := s) (by omega) (x := g) eg3.symm
    refine wp_sw (wp_ret (k _ ?_))
    have e : fn_grant A P s = sN (sJ (sJ A 5 s g) 2 a (vJ A 2 a + g)) 16 0 (s + 1) := by
      unfold fn_grant
      dsimp only
      rw [← haa, ← hww, ← hgg]
      rw [sI_id (sJ (sJ A 5 s g) 2 a (vJ A 2 a + g)) (show vI (sJ (sJ A 5 s g) 2 a (vJ A 2 a + g)) 21 s = Int32.ofNat (vN A 5 0 + 600) from hend)]
    rw [e]
    exact hM
  refine wp_if (fun h => ?_) (fun h => ?_) <;> rw [lg_ge] at h
  · refine wp_eq (e147_2 ..) (wp_cr (mc_free (d := d + 3) hM ha16 rfl ⟨_, rfl, ?_⟩))
    have : g = fn_free A a := by
      rw [hgg]
      split
      · rfl
      · rename_i hlt
        exact Int64.le_antisymm (Int64.not_lt.mp hlt) (Int64.not_lt.mp h)
    rw [this] at e3
    exact e3
  · have : g = w := by
      rw [hgg, if_neg]
      intro hlt
      exact h (fun q => Int64.lt_irrefl (Int64.lt_trans q hlt))
    rw [this] at e3
    exact wp_eq (e147_1 ..) e3
