/-! PART 98c (src 98c.main.src): the law answers 1 -/
set_option maxHeartbeats 1600000
set_option maxRecDepth 100000
theorem cs_mem {L : Nat} {xs : Nat → Int32} {U : Nat → Prop} {EI ER : Nat → Nat → Nat → Prop} {f : Nat → Nat} {ln sl : Nat} {σ : z_St} (h : z_cs L xs U EI ER f ln sl σ) (hI : ∀ c d m, ¬ EI c d m) (hR : ∀ c d m, ¬ ER c d m) : σ = z_sB (cn σ) (al σ) xs := by
  have e1 : gI σ = z_mui xs := funext fun c => funext fun d => funext fun m => h.1 c d m (hI c d m)
  have e2 : gJ σ = fun _ _ _ => 0 := funext fun c => funext fun d => funext fun m => h.2.1 c d m
  have e3 : gR σ = z_mur := funext fun c => funext fun d => funext fun m => h.2.2.1 c d m (hR c d m)
  unfold z_sB
  rw [← e1, ← e2, ← e3]
  rfl
theorem e8_none {d : Nat} (h : ¬ d ∈ z_ptM.map (·.1)) : z_mur 8 d 0 = none := by
  have : z_ptM.find? (fun q => decide (q.1 = d)) = none := List.find?_eq_none.mpr fun q hq g => h (List.mem_map.mpr ⟨q, hq, of_decide_eq_true g⟩)
  show (if 0 = 0 then (z_ptM.find? fun q => decide (q.1 = d)).map fun q => (q.2, 0) else none) = none
  rw [if_pos rfl, this]
  rfl
theorem ei_all (c d m : Nat) : ¬ z_ei 7 5 5 c d m := by
  rintro (⟨_, _, q⟩ | ⟨_, q⟩)
  · unfold z_e1t at q; omega
  · unfold z_e8t at q; omega
theorem er_all (c d m : Nat) : ¬ z_er 16 8 16 64 32 c d m := by
  rintro (⟨_, _, q⟩ | ⟨_, _, q⟩ | ⟨_, _, q⟩ | ⟨_, _, q⟩ | ⟨_, _, q⟩)
  · unfold z_sd at q; omega
  · omega
  · omega
  · omega
  · omega
theorem law_begin {L : Nat} {xs : Nat → Int32} (hL : L ≤ 704) : wp (E xP248 (zD 20) 0 [some (.inr (.inr (some (14, 0)))), none, none, none] [] (z_sB (fun a => if a = 14 then L else 0) [] xs)) (fun σ v => v = some (.inl 1) ∧ (al σ).length ≤ 600000 ∧ z_sl (al σ) ≤ 7302250) := by
  have h0 : z_cs L xs (fun _ => True) (fun _ _ _ => False) (fun _ _ _ => False) (fun a => if a = 14 then L else 0) 0 0 (z_sB (fun a => if a = 14 then L else 0) [] xs) := ⟨fun _ _ _ _ => rfl, fun _ _ _ => rfl, fun _ _ _ _ => rfl, rfl, rfl, rfl, fun _ _ => rfl⟩
  have h1 := cs_O (V := z_un) (FI := z_ei 0 0 0) (FR := z_er 0 0 0 0 0) h0 (a := 0) (n := 0) (by decide) (fun d => .inr (mui_0 (by decide) _ _)) (fun d => by
    by_cases e : z_sd 0 d
    · exact .inl (.inl ⟨rfl, rfl, e⟩)
    · right
      unfold z_sd at e
      unfold z_mur
      rw [if_pos rfl, if_pos rfl]
      repeat (rw [if_neg (by omega)])) (fun _ _ _ q => q.elim) (fun _ _ _ q => q.elim) (fun b hb => ⟨trivial, fun e => by subst e; unfold z_un at hb; omega⟩)
  refine lw_eq ?_
  show wp (z_run xB248_0.1 xB248_0.2 _ _ _ _ _) _
  unfold xB248_0
  dsimp only
  refine lw_1 (fun _ => rfl) (lw_1 (fun _ => rfl) ?_)
  show wp (z_run _ _ (zD 20) [some (.inr (.inr (some (14, 0)))), none, none, none] (.inr (.inr (some (0, 0))) :: .inr (.inr (some (0, 0))) :: []) (nO (z_sB (fun a => if a = 14 then L else 0) [] xs) 0 0) (E xP248 (zD 20))) _
  refine lw_cv (q := (0, 0)) rfl rfl (Nat.le_of_ble_eq_true rfl) ?_
  refine xc_init (d := 17) h1 (fun a ha hu => ?_) fun σ1 f1 n1 l1 h2 m1 m8 nb1 lb1 => ⟨rfl, ?_⟩
  · unfold va_up
    rw [if_neg ha]
    exact if_neg (fun g => hu (by unfold z_un; omega))
  refine lw_1 (fun _ => rfl) ?_
  have c8 : cn σ1 8 + z_off 8 = 0 := by
    rw [h2.2.2.2.2.2.2 8 (by unfold z_un; omega)]
    rfl
  have h3 := cs_O (V := z_um 0) (FI := z_ej 0 0 0) (FR := z_e8 (z_ptM.map (·.1))) h2 (a := 8) (n := 0) (by decide) (fun d => by
    by_cases e : d = 6 ∨ d = 34
    · left; unfold z_ej; omega
    · right
      unfold z_mui
      rw [if_neg (by decide), if_neg (by decide), if_neg (by decide), if_neg (by decide), if_pos rfl, if_pos rfl, if_neg (by omega), if_neg (by omega)]) (fun d => by
    by_cases e : d ∈ z_ptM.map (·.1)
    · exact .inl ⟨rfl, rfl, e⟩
    · exact .inr (e8_none e)) (fun c d m q => absurd q (ei_all c d m)) (fun c d m q => absurd q (er_all c d m)) (fun b hb => by unfold z_um at hb; unfold z_un; omega)
  refine lw_1 (fun _ => rfl) (lw_1 (fun _ => rfl) ?_)
  show wp (z_run _ _ (zD 20) [some (.inr (.inr (some (14, 0)))), some (.inr (.inr (some (0, 0)))), none, none] (.inr (.inr (some (8, cn σ1 8 + z_off 8))) :: .inr (.inr (some (8, cn σ1 8 + z_off 8))) :: []) (nO σ1 8 (cn σ1 8 + z_off 8)) (E xP248 (zD 20))) _
  rw [c8]
  refine lw_cv (q := (8, 0)) rfl rfl (Nat.le_of_ble_eq_true rfl) ?_
  refine mc_init (d := 19) h3 ⟨m1, m8⟩ fun σ2 f2 n2 l2 h4 hf2 nb2 lb2 => ⟨rfl, ?_⟩
  refine lw_1 (fun _ => rfl) (lw_1 (fun _ => rfl) (lw_1 (fun _ => rfl) (lw_goto ?_)))
  show wp (E xP248 (zD 20) 1 (z_LS 0) [] σ2) _
  have es := cs_mem h4 (fun c d m q => by unfold z_ej at q; omega) (fun c d m q => by unfold z_e8 at q; exact absurd q.2.2 (List.not_mem_nil))
  have hJ : z_JJ L 0 xs z_A0 σ2 := by
    refine ⟨?_, ?_, A0_V, ⟨?_, ?_, ?_, ?_, ?_, ?_, ?_⟩, ?_⟩
    · rw [es]; exact s0_X
    · rw [es]; exact s0_M
    · rw [h4.2.2.2.2.2.2 14 (by unfold z_um; omega), if_pos rfl]
    · rw [h4.2.2.2.2.2.2 9 (by unfold z_um; omega)]; rfl
    · rw [h4.2.2.2.2.2.2 10 (by unfold z_um; omega)]; rfl
    · rw [h4.2.2.2.1, hf2.1]; rfl
    · rw [h4.2.2.2.1, hf2.2]; rfl
    · rw [h4.2.2.2.2.1]
      show n2 ≤ 100000 + 3 * 0 + 0
      omega
    · rw [h4.2.2.2.2.2.1]
      show l2 ≤ 1000000 + 100 * 0 + 10 * 0
      have o0 : oN 0 = 22 := rfl
      have o8 : oN 8 = 92 := rfl
      omega
    · rw [es]; rfl
  have hN0 : vN z_A0 5 0 = 0 := rfl
  exact law_loop hL 64 0 0 z_A0 σ2 (Nat.zero_le _) (by omega) hJ ⟨by decide, by rw [hN0]; decide⟩
theorem fit_b {x : Int32} (h : nb x = x) : fits .byte (.int x) = true := by
  rw [← h]
  exact pk_fb x
theorem mui_fit {xs : Nat → Int32} (a b n : Nat) (h : aTy a = 17) : fits .byte (.int (z_mui xs a b n)) = true := by
  have z : fits .byte (.int 0) = true := fit_b (by decide)
  have key : ∀ (l : List Int32), (∀ x, x ∈ l → nb x = x) → ∀ m, fits .byte (.int (l.getD m 0)) = true := by
    intro l hl m
    by_cases e : m < l.length
    · rw [List.getD_eq_getElem?_getD, List.getElem?_eq_getElem e]
      exact fit_b (hl _ (List.getElem_mem e))
    · rw [getD_0 (by omega)]; exact z
  unfold z_mui
  split
  · rename_i e; subst e; exact absurd h (by decide)
  split
  · rename_i e; subst e; exact absurd h (by decide)
  split
  · split
    · exact key _ mh_nm.1.2 _
    split
    · exact key _ (by decide) _
    split
    · exact key _ (by decide) _
    · exact z
  split
  · rename_i e; subst e; exact absurd h (by decide)
  split
  · rename_i e; subst e; exact absurd h (by decide)
  split
  · split
    · exact key _ mh_nm.1.2 _
    · exact z
  split
  · rename_i e; subst e; exact absurd h (by decide)
  · exact z
theorem law_main (L : Nat) (xs : Nat → Int32) (hL : L ≤ 704) : ∃ (d : Nat) (σ0 σf : z_St), d ≤ 400 ∧ al σ0 = [] ∧ cn σ0 14 = L ∧ gI σ0 14 0 = xs ∧ (∀ a b n, aTy a = 17 → fits .byte (.int (gI σ0 a b n)) = true) ∧ E xP248 (z_D z_pg z_nl d) 0 [some (.inr (.inr (some (14, 0)))), none, none, none] [] σ0 = some (σf, some (.inl 1)) ∧ (al σf).length ≤ 600000 ∧ z_sl (al σf) ≤ 7302250 := by
  obtain ⟨σf, r, e, rfl, h1, h2⟩ := law_begin (xs := xs) hL
  exact ⟨20, z_sB (fun a => if a = 14 then L else 0) [] xs, σf, by decide, rfl, (show (if (14 : Nat) = 14 then L else 0) = L from if_pos rfl), rfl, mui_fit, e, h1, h2⟩
