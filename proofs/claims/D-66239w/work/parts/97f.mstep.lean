/-! PART 97f (src 97f.mstep.src, printed by wip/gen/g97c.py): the twin is made -/
set_option maxHeartbeats 1600000
set_option maxRecDepth 100000
def z_um (lo a : Nat) : Prop := a = 9 ∨ a = 10 ∨ a = 14 ∨ (lo ≤ a ∧ 7 ≤ a / 1048576 ∧ a / 1048576 ≤ 68)
def z_e8 (l : List Nat) (c d m : Nat) : Prop := c = 8 ∧ m = 0 ∧ d ∈ l
def z_ej (k h o : Nat) (c d m : Nat) : Prop := (c = 65012112 ∧ d = 0 ∧ k ≤ m ∧ m < 12) ∨ (c = 8389905 ∧ d = 0 ∧ h ≤ m ∧ m < 6) ∨ (c = 8 ∧ m = 0 ∧ ((d = 34 ∧ o < 1) ∨ (d = 6 ∧ o < 2)))
theorem ej_kk {k h o c d m : Nat} (q : z_ej k h o c d m) (hn : ¬ (c = 65012112 ∧ d = 0 ∧ m = k)) : z_ej (k + 1) h o c d m := by
  rcases q with ⟨h1, h2, h3, h4⟩ | q
  · exact .inl ⟨h1, h2, Nat.lt_of_le_of_ne h3 (fun e => hn ⟨h1, h2, e.symm⟩), h4⟩
  · exact .inr q
theorem ej_hh {k h o c d m : Nat} (q : z_ej k h o c d m) (hn : ¬ (c = 8389905 ∧ d = 0 ∧ m = h)) : z_ej k (h + 1) o c d m := by
  rcases q with q | ⟨h1, h2, h3, h4⟩ | q
  · exact .inl q
  · exact .inr (.inl ⟨h1, h2, Nat.lt_of_le_of_ne h3 (fun e => hn ⟨h1, h2, e.symm⟩), h4⟩)
  · exact .inr (.inr q)
theorem ej_oo {k h o o' s c d m : Nat} (hs : (s = 34 ∧ o = 0 ∧ o' = 1) ∨ (s = 6 ∧ o' = 2 ∧ o = 1)) (q : z_ej k h o c d m) (hn : ¬ (c = 8 ∧ d = s ∧ m = 0)) : z_ej k h o' c d m := by
  rcases q with q | q | ⟨h1, h2, h3⟩
  · exact .inl q
  · exact .inr (.inl q)
  · have h5 : ¬ d = s := fun e => hn ⟨h1, e, h2⟩
    exact .inr (.inr ⟨h1, h2, by omega⟩)
abbrev z_L8 : z_L := [some (.inr (.inr (some (8, 0))))]
theorem tw_arr {L : Nat} {xs : Nat → Int32} {lo : Nat} {EI : Nat → Nat → Nat → Prop} {slot : Nat} {sl8 : List Nat} {f : Nat → Nat} {ln sl : Nat} {σ : z_St} (h : z_cs L xs (z_um lo) EI (z_e8 (slot :: sl8)) f ln sl σ) (hf : f 1 = 276 ∧ f 80741649 = 276) (site : Nat) (h16 : ¬ site < 16 ∧ lo ≤ site ∧ 7 ≤ site / 1048576 ∧ site / 1048576 ≤ 68) (hne : ¬ site = 1 ∧ ¬ site = 80741649 ∧ ¬ site = 14) (ho : z_off site = 0) (hI : ∀ m, EI site 0 m ∨ z_mui xs site 0 m = 0) (hR : ∀ m, z_mur site 0 m = none) (hx : some (site, 0) = z_mur 8 slot 0) {os : List z_Op} {t : z_Tm} {C : z_O} {y : Int32} {j : z_J} {Q : z_St → Option z_V → Prop}
    (k : ∀ σ' f', z_cs L xs (z_um (site + 1)) EI (z_e8 sl8) f' (ln + 1) (sl + aLen site) σ' → f' 1 = 276 ∧ f' 80741649 = 276 → wp (z_run os t C z_L8 [] σ' j) Q) : wp (z_run (zo_ldA 0 :: zo_cI y :: zo_newA site y :: zo_pR 8 slot :: os) t C z_L8 [] σ j) Q := by
  have e0 : cn σ site + z_off site = 0 := by
    rw [h.2.2.2.2.2.2 site (.inr (.inr (.inr h16.2))), if_neg hne.2.2, ho]
  have a1 := cs_A (V := z_um (site + 1)) (FI := EI) (FR := z_e8 (slot :: sl8)) h (a := site) (n := 0) h16.1 hI (fun m => .inr (hR m)) (fun _ _ _ q => q) (fun _ _ _ q => q) (fun b hb => by unfold z_um at hb ⊢; omega)
  have a2 := cs_R (FR := z_e8 sl8) a1 (a := 8) (b := slot) (n := 0) (x := some (site, 0)) hx (fun c d m q hn => by
    obtain ⟨q1, q2, q3⟩ := q
    refine ⟨q1, q2, ?_⟩
    rcases List.mem_cons.mp q3 with g | g
    · exact absurd ⟨q1, g, q2⟩ hn
    · exact g)
  show wp (gd (y = y) (gd ((8 : Nat) = 8) (z_run os t C z_L8 [] (wR (nA σ site (cn σ site + z_off site)) 8 slot 0 (some (site, cn σ site + z_off site))) j))) Q
  rw [e0]
  refine wp_gd rfl (wp_gd rfl (k _ _ a2 ?_))
  unfold va_up
  rw [if_neg (fun g => hne.1 g.symm), if_neg (fun g => hne.2.1 g.symm)]
  exact hf
theorem tw_int {L : Nat} {xs : Nat → Int32} {U : Nat → Prop} {EI ER FI : Nat → Nat → Nat → Prop} {f : Nat → Nat} {ln sl : Nat} {σ : z_St} (h : z_cs L xs U EI ER f ln sl σ) {slot : Nat} {y : Int32} (hx : y = z_mui xs 8 slot 0) (m : ∀ c d m, EI c d m → ¬ (c = 8 ∧ d = slot ∧ m = 0) → FI c d m) {os : List z_Op} {t : z_Tm} {C : z_O} {j : z_J} {Q : z_St → Option z_V → Prop}
    (k : ∀ σ', z_cs L xs U FI ER f ln sl σ' → wp (z_run os t C z_L8 [] σ' j) Q) : wp (z_run (zo_ldA 0 :: zo_cI y :: zo_pI 8 slot :: os) t C z_L8 [] σ j) Q := by
  show wp (gd ((8 : Nat) = 8) (z_run os t C z_L8 [] (wI σ 8 slot 0 y) j)) Q
  exact wp_gd rfl (k _ (cs_I h (.inl hx) m))
theorem tw_key {L : Nat} {xs : Nat → Int32} {U : Nat → Prop} {EI ER FI : Nat → Nat → Nat → Prop} {f : Nat → Nat} {ln sl : Nat} {σ : z_St} (h : z_cs L xs U EI ER f ln sl σ) {a : Nat} (ha : aTy a = 16) (n : Nat) {i : Int32} (hi : i = Int32.ofNat n) (hn : n < aLen a) (hl : aLen a ≤ 2147483648) {y : Int32} (hx : y = z_mui xs a 0 n) (m : ∀ c d m, EI c d m → ¬ (c = a ∧ d = 0 ∧ m = n) → FI c d m) {os : List z_Op} {t : z_Tm} {C : z_O} {st : List z_V} {j : z_J} {Q : z_St → Option z_V → Prop}
    (k : ∀ σ', z_cs L xs U FI ER f ln sl σ' → wp (z_run os t C z_L8 (.inr (.inr (some (a, 0))) :: st) σ' j) Q) : wp (z_run (zo_dupR :: zo_cI i :: zo_cI y :: zo_astI :: os) t C z_L8 (.inr (.inr (some (a, 0))) :: st) σ j) Q := by
  subst hi
  show wp (gd (aTy a = 16) (gd (zin (Int32.ofNat n) (aLen a)) (z_run os t C z_L8 (.inr (.inr (some (a, 0))) :: st) (wI σ a 0 (Int32.toNatClampNeg (Int32.ofNat n)) y) j))) Q
  refine wp_gd ha (wp_gd (zin_io hn hl) ?_)
  rw [io_nat (by omega)]
  exact k _ (cs_I h (.inl hx) m)
theorem tw_oct {L : Nat} {xs : Nat → Int32} {U : Nat → Prop} {EI ER FI : Nat → Nat → Nat → Prop} {f : Nat → Nat} {ln sl : Nat} {σ : z_St} (h : z_cs L xs U EI ER f ln sl σ) (hp : ¬ ER 8 5 0) (n : Nat) {i : Int32} (hi : i = Int32.ofNat n) (hn : n < 40) {y : Int32} (hx : nb y = z_mui xs 8389905 0 n) (m : ∀ c d m, EI c d m → ¬ (c = 8389905 ∧ d = 0 ∧ m = n) → FI c d m) {os : List z_Op} {t : z_Tm} {C : z_O} {j : z_J} {Q : z_St → Option z_V → Prop}
    (k : ∀ σ', z_cs L xs U FI ER f ln sl σ' → wp (z_run os t C z_L8 [] σ' j) Q) : wp (z_run (zo_ldA 0 :: zo_gR 8 5 :: zo_cI i :: zo_cI y :: zo_astB :: os) t C z_L8 [] σ j) Q := by
  subst hi
  have rp : gR σ 8 5 0 = some (8389905, 0) := h.2.2.1 8 5 0 hp
  show wp (gd ((8 : Nat) = 8) ((pI fun x => pI fun i => pD fun q => ck (aTy q.1 = 17) (ck (zin i (aLen q.1)) (wr fun σ => rI σ q.1 q.2 (va_up (gI σ q.1 q.2) i.toNatClampNeg x.toInt8.toInt32)))) C z_L8 [.inl y, .inl (Int32.ofNat n), .inr (.inr (gR σ 8 5 0))] σ (fun ls st σ => z_run os t C ls st σ j))) Q
  rw [rp]
  show wp (gd ((8 : Nat) = 8) (gd (aTy 8389905 = 17) (gd (zin (Int32.ofNat n) (aLen 8389905)) (z_run os t C z_L8 [] (wI σ 8389905 0 (Int32.toNatClampNeg (Int32.ofNat n)) y.toInt8.toInt32) j)))) Q
  refine wp_gd rfl (wp_gd aty_8389905 (wp_gd (by rw [alen_8389905]; exact zin_io hn (by decide)) ?_))
  rw [io_nat (by omega), nb_un]
  exact k _ (cs_I h (.inl hx) m)
theorem mj_I {xs : Nat → Int32} {c : Nat} (h : ¬ c = 14 ∧ ¬ c = 1 ∧ ¬ c = 80741649 ∧ ¬ c = 4 ∧ ¬ c = 8 ∧ ¬ c = 8389905 ∧ ¬ c = 65012112) {k hh o : Nat} (m : Nat) : z_ej k hh o c 0 m ∨ z_mui xs c 0 m = 0 := .inr (mui_0 h 0 m)
theorem ej_h {xs : Nat → Int32} (m : Nat) {o : Nat} : z_ej 0 0 o 8389905 0 m ∨ z_mui xs 8389905 0 m = 0 := by
  by_cases e : m < 6
  · left; unfold z_ej; omega
  · right
    unfold z_mui
    rw [if_neg (by decide), if_neg (by decide), if_neg (by decide), if_neg (by decide), if_neg (by decide), if_pos rfl, if_pos rfl]
    exact getD_0 (by show 6 ≤ m; omega)
theorem ej_k {xs : Nat → Int32} (m : Nat) {h o : Nat} : z_ej 0 h o 65012112 0 m ∨ z_mui xs 65012112 0 m = 0 := by
  by_cases e : m < 12
  · left; unfold z_ej; omega
  · right
    unfold z_mui
    rw [if_neg (by decide), if_neg (by decide), if_neg (by decide), if_neg (by decide), if_neg (by decide), if_neg (by decide), if_pos rfl, if_pos rfl]
    exact getD_0 (by show 12 ≤ m; omega)
theorem tw_new {L : Nat} {xs : Nat → Int32} {lo : Nat} {EI : Nat → Nat → Nat → Prop} {sl8 : List Nat} {f : Nat → Nat} {ln sl : Nat} {σ : z_St} (h : z_cs L xs (z_um lo) EI (z_e8 sl8) f ln sl σ) (hf : f 1 = 276 ∧ f 80741649 = 276) (site : Nat) (h16 : ¬ site < 16 ∧ lo ≤ site ∧ 7 ≤ site / 1048576 ∧ site / 1048576 ≤ 68) (hne : ¬ site = 1 ∧ ¬ site = 80741649 ∧ ¬ site = 14) (ho : z_off site = 0) (hI : ∀ m, EI site 0 m ∨ z_mui xs site 0 m = 0) (hR : ∀ m, z_mur site 0 m = none) {os : List z_Op} {t : z_Tm} {C : z_O} {y : Int32} {j : z_J} {Q : z_St → Option z_V → Prop}
    (k : ∀ σ' f', z_cs L xs (z_um (site + 1)) EI (z_e8 sl8) f' (ln + 1) (sl + aLen site) σ' → f' 1 = 276 ∧ f' 80741649 = 276 → wp (z_run os t C z_L8 (.inr (.inr (some (site, 0))) :: .inr (.inr (some (8, 0))) :: []) σ' j) Q) : wp (z_run (zo_ldA 0 :: zo_cI y :: zo_newA site y :: os) t C z_L8 [] σ j) Q := by
  have e0 : cn σ site + z_off site = 0 := by
    rw [h.2.2.2.2.2.2 site (.inr (.inr (.inr h16.2))), if_neg hne.2.2, ho]
  have a1 := cs_A (V := z_um (site + 1)) (FI := EI) (FR := z_e8 sl8) h (a := site) (n := 0) h16.1 hI (fun m => .inr (hR m)) (fun _ _ _ q => q) (fun _ _ _ q => q) (fun b hb => by unfold z_um at hb ⊢; omega)
  show wp (gd (y = y) (z_run os t C z_L8 (.inr (.inr (some (site, cn σ site + z_off site))) :: .inr (.inr (some (8, 0))) :: []) (nA σ site (cn σ site + z_off site)) j)) Q
  rw [e0]
  refine wp_gd rfl (k _ _ a1 ?_)
  unfold va_up
  rw [if_neg (fun g => hne.1 g.symm), if_neg (fun g => hne.2.1 g.symm)]
  exact hf
theorem tw_put {L : Nat} {xs : Nat → Int32} {U : Nat → Prop} {EI : Nat → Nat → Nat → Prop} {slot : Nat} {sl8 : List Nat} {f : Nat → Nat} {ln sl : Nat} {σ : z_St} (h : z_cs L xs U EI (z_e8 (slot :: sl8)) f ln sl σ) {a : Nat} (hx : some (a, 0) = z_mur 8 slot 0) {os : List z_Op} {t : z_Tm} {C : z_O} {j : z_J} {Q : z_St → Option z_V → Prop}
    (k : ∀ σ', z_cs L xs U EI (z_e8 sl8) f ln sl σ' → wp (z_run os t C z_L8 [] σ' j) Q) : wp (z_run (zo_pR 8 slot :: os) t C z_L8 (.inr (.inr (some (a, 0))) :: .inr (.inr (some (8, 0))) :: []) σ j) Q := by
  have a2 := cs_R (FR := z_e8 sl8) h (a := 8) (b := slot) (n := 0) (x := some (a, 0)) hx (fun c d m q hn => by
    obtain ⟨q1, q2, q3⟩ := q
    refine ⟨q1, q2, ?_⟩
    rcases List.mem_cons.mp q3 with g | g
    · exact absurd ⟨q1, g, q2⟩ hn
    · exact g)
  show wp (gd ((8 : Nat) = 8) (z_run os t C z_L8 [] (wR σ 8 slot 0 (some (a, 0))) j)) Q
  exact wp_gd rfl (k _ a2)
theorem mui_k {xs : Nat → Int32} (m : Nat) : z_mui xs 65012112 0 m = z_keys.getD m 0 := by
  unfold z_mui
  rw [if_neg (by decide), if_neg (by decide), if_neg (by decide), if_neg (by decide), if_neg (by decide), if_neg (by decide), if_pos rfl, if_pos rfl]
theorem mui_h {xs : Nat → Int32} (m : Nat) : z_mui xs 8389905 0 m = z_mh.getD m 0 := by
  unfold z_mui
  rw [if_neg (by decide), if_neg (by decide), if_neg (by decide), if_neg (by decide), if_neg (by decide), if_pos rfl, if_pos rfl]
theorem tw_b2 {ln sl l0 s0 i x : Nat} (hb : ln ≤ l0 + i ∧ sl ≤ s0 + x) (y n i' x' : Nat) (ha : y = n) (hi : i + 1 = i' ∧ x + n = x') : ln + 1 ≤ l0 + i' ∧ sl + y ≤ s0 + x' := by omega
theorem tw_arr2 {L : Nat} {xs : Nat → Int32} {lo : Nat} {EI : Nat → Nat → Nat → Prop} {slot : Nat} {sl8 : List Nat} {f : Nat → Nat} {ln sl : Nat} {σ : z_St} (h : z_cs L xs (z_um lo) EI (z_e8 (slot :: sl8)) f ln sl σ) (hf : f 1 = 276 ∧ f 80741649 = 276) {l0 s0 i x : Nat} (hb : ln ≤ l0 + i ∧ sl ≤ s0 + x) (site n i' x' : Nat) (ha : aLen site = n) (hi : i + 1 = i' ∧ x + n = x') (h16 : ¬ site < 16 ∧ lo ≤ site ∧ 7 ≤ site / 1048576 ∧ site / 1048576 ≤ 68) (hne : ¬ site = 1 ∧ ¬ site = 80741649 ∧ ¬ site = 14) (ho : z_off site = 0) (hI : ∀ m, EI site 0 m ∨ z_mui xs site 0 m = 0) (hR : ∀ m, z_mur site 0 m = none) (hx : some (site, 0) = z_mur 8 slot 0) {os : List z_Op} {t : z_Tm} {C : z_O} {y : Int32} {j : z_J} {Q : z_St → Option z_V → Prop} (k : ∀ σ' f' ln' sl', z_cs L xs (z_um (site + 1)) EI (z_e8 sl8) f' ln' sl' σ' → f' 1 = 276 ∧ f' 80741649 = 276 → (ln' ≤ l0 + i' ∧ sl' ≤ s0 + x') → wp (z_run os t C z_L8 [] σ' j) Q) : wp (z_run (zo_ldA 0 :: zo_cI y :: zo_newA site y :: zo_pR 8 slot :: os) t C z_L8 [] σ j) Q := tw_arr h hf site h16 hne ho hI hR hx (fun σ' f' h hf => k σ' f' _ _ h hf (tw_b2 hb (aLen site) n i' x' ha hi))
