/-! PART 97c (src 97c.minit.src, printed by wip/gen/g97c.py): the twin is made -/
set_option maxHeartbeats 1600000
set_option maxRecDepth 100000
def z_um (lo a : Nat) : Prop := a = 9 ∨ a = 10 ∨ a = 14 ∨ (lo ≤ a ∧ 7 ≤ a / 1048576 ∧ a / 1048576 ≤ 68)
def z_e8 (l : List Nat) (c d m : Nat) : Prop := c = 8 ∧ m = 0 ∧ d ∈ l
def z_ej (k h o : Nat) (c d m : Nat) : Prop := (c = 65012112 ∧ d = 0 ∧ k ≤ m ∧ m < 12) ∨ (c = 8389905 ∧ d = 0 ∧ h ≤ m ∧ m < 6) ∨ (c = 8 ∧ m = 0 ∧ ((d = 34 ∧ o < 1) ∨ (d = 6 ∧ o < 2)))
abbrev z_L8 : z_L := [some (.inr (.inr (some (8, 0))))]
theorem tw_arr {L : Nat} {xs : Nat → Int32} {lo : Nat} {EI : Nat → Nat → Nat → Prop} {slot : Nat} {sl8 : List Nat} {f : Nat → Nat} {ln sl : Nat} {σ : z_St} (h : z_cs L xs (z_um lo) EI (z_e8 (slot :: sl8)) f ln sl σ) (hf : f 1 = 276 ∧ f 80741649 = 276) (site : Nat) (h16 : ¬ site < 16 ∧ lo ≤ site ∧ 7 ≤ site / 1048576 ∧ site / 1048576 ≤ 68) (hne : ¬ site = 1 ∧ ¬ site = 80741649 ∧ ¬ site = 14) (ho : z_off site = 0) (hI : ∀ m, EI site 0 m ∨ z_mui xs site 0 m = 0) (hR : ∀ m, z_mur site 0 m = none) (hx : some (site, 0) = z_mur 8 slot 0) {os : List z_Op} {t : z_Tm} {C : z_O} {y : Int32} {j : z_J} {Q : z_St → Option z_V → Prop}
    (k : ∀ σ' f', z_cs L xs (z_um (site + 1)) EI (z_e8 sl8) f' (ln + 1) (sl + aLen site) σ' → f' 1 = 276 ∧ f' 80741649 = 276 → wp (z_run os t C z_L8 [] σ' j) Q) : wp (z_run (zo_ldA 0 :: zo_cI y :: zo_newA site y :: zo_pR 8 slot :: os) t C z_L8 [] σ j) Q := by
  have e0 : cn σ site + z_off site = 0 := by
    rw [h.2.2.2.2.2.2 site (.inr (.inr (.inr h16.2))), if_neg hne.2.2, ho]
  have a1 := cs_A (V := z_um (site + 1)) (FI := EI) (FR := z_e8 (slot :: sl8)) h (a := site) (n := 0) h16.1 hI (fun m => .inr (hR m)) (fun _ _ _ q => q) (fun _ _ _ q => q) (fun b hb => by unfold z_um at hb ⊢; omega)
  have a2 := cs_R (FR := z_e8 sl8) a1 (a := 8) (b := slot) (n := 0) (x := some (site, 0)) hx (fun c d m q hn => by
    obtain ⟨q1, q2, q3⟩ := q
    refine ⟨q1, q2, ?_⟩
    rcases List.mem_cons.mp q3 with g | g
    · exact absurd ⟨q1, g, q2⟩ hn
    · exact g)
  show wp (gd (y = y) (gd ((8 : Nat) = 8) (z_run os t C z_L8 [] (wR (nA σ site (cn σ site + z_off site)) 8 slot 0 (some (site, cn σ site + z_off site))) j))) Q
  rw [e0]
  refine wp_gd rfl (wp_gd rfl (k _ _ a2 ?_))
  unfold va_up
  rw [if_neg (fun g => hne.1 g.symm), if_neg (fun g => hne.2.1 g.symm)]
  exact hf
theorem tw_int {L : Nat} {xs : Nat → Int32} {U : Nat → Prop} {EI ER FI : Nat → Nat → Nat → Prop} {f : Nat → Nat} {ln sl : Nat} {σ : z_St} (h : z_cs L xs U EI ER f ln sl σ) {slot : Nat} {y : Int32} (hx : y = z_mui xs 8 slot 0) (m : ∀ c d m, EI c d m → ¬ (c = 8 ∧ d = slot ∧ m = 0) → FI c d m) {os : List z_Op} {t : z_Tm} {C : z_O} {j : z_J} {Q : z_St → Option z_V → Prop}
    (k : ∀ σ', z_cs L xs U FI ER f ln sl σ' → wp (z_run os t C z_L8 [] σ' j) Q) : wp (z_run (zo_ldA 0 :: zo_cI y :: zo_pI 8 slot :: os) t C z_L8 [] σ j) Q := by
  show wp (gd ((8 : Nat) = 8) (z_run os t C z_L8 [] (wI σ 8 slot 0 y) j)) Q
  exact wp_gd rfl (k _ (cs_I h (.inl hx) m))
theorem tw_key {L : Nat} {xs : Nat → Int32} {U : Nat → Prop} {EI ER FI : Nat → Nat → Nat → Prop} {f : Nat → Nat} {ln sl : Nat} {σ : z_St} (h : z_cs L xs U EI ER f ln sl σ) {a : Nat} (ha : aTy a = 16) (n : Nat) {i : Int32} (hi : i = Int32.ofNat n) (hn : n < aLen a) (hl : aLen a ≤ 2147483648) {y : Int32} (hx : y = z_mui xs a 0 n) (m : ∀ c d m, EI c d m → ¬ (c = a ∧ d = 0 ∧ m = n) → FI c d m) {os : List z_Op} {t : z_Tm} {C : z_O} {st : List z_V} {j : z_J} {Q : z_St → Option z_V → Prop}
    (k : ∀ σ', z_cs L xs U FI ER f ln sl σ' → wp (z_run os t C z_L8 (.inr (.inr (some (a, 0))) :: st) σ' j) Q) : wp (z_run (zo_dupR :: zo_cI i :: zo_cI y :: zo_astI :: os) t C z_L8 (.inr (.inr (some (a, 0))) :: st) σ j) Q := by
  subst hi
  show wp (gd (aTy a = 16) (gd (zin (Int32.ofNat n) (aLen a)) (z_run os t C z_L8 (.inr (.inr (some (a, 0))) :: st) (wI σ a 0 (Int32.toNatClampNeg (Int32.ofNat n)) y) j))) Q
  refine wp_gd ha (wp_gd (zin_io hn hl) ?_)
  rw [io_nat (by omega)]
  exact k _ (cs_I h (.inl hx) m)
theorem tw_oct {L : Nat} {xs : Nat → Int32} {U : Nat → Prop} {EI ER FI : Nat → Nat → Nat → Prop} {f : Nat → Nat} {ln sl : Nat} {σ : z_St} (h : z_cs L xs U EI ER f ln sl σ) (hp : ¬ ER 8 5 0) (n : Nat) {i : Int32} (hi : i = Int32.ofNat n) (hn : n < 40) {y : Int32} (hx : nb y = z_mui xs 8389905 0 n) (m : ∀ c d m, EI c d m → ¬ (c = 8389905 ∧ d = 0 ∧ m = n) → FI c d m) {os : List z_Op} {t : z_Tm} {C : z_O} {j : z_J} {Q : z_St → Option z_V → Prop}
    (k : ∀ σ', z_cs L xs U FI ER f ln sl σ' → wp (z_run os t C z_L8 [] σ' j) Q) : wp (z_run (zo_ldA 0 :: zo_gR 8 5 :: zo_cI i :: zo_cI y :: zo_astB :: os) t C z_L8 [] σ j) Q := by
  subst hi
  have rp : gR σ 8 5 0 = some (8389905, 0) := h.2.2.1 8 5 0 hp
  show wp (gd ((8 : Nat) = 8) ((pI fun x => pI fun i => pD fun q => ck (aTy q.1 = 17) (ck (zin i (aLen q.1)) (wr fun σ => rI σ q.1 q.2 (va_up (gI σ q.1 q.2) i.toNatClampNeg x.toInt8.toInt32)))) C z_L8 [.inl y, .inl (Int32.ofNat n), .inr (.inr (gR σ 8 5 0))] σ (fun ls st σ => z_run os t C ls st σ j))) Q
  rw [rp]
  show wp (gd ((8 : Nat) = 8) (gd (aTy 8389905 = 17) (gd (zin (Int32.ofNat n) (aLen 8389905)) (z_run os t C z_L8 [] (wI σ 8389905 0 (Int32.toNatClampNeg (Int32.ofNat n)) y.toInt8.toInt32) j)))) Q
  refine wp_gd rfl (wp_gd aty_8389905 (wp_gd (by rw [alen_8389905]; exact zin_io hn (by decide)) ?_))
  rw [io_nat (by omega), nb_un]
  exact k _ (cs_I h (.inl hx) m)
theorem mj_I {xs : Nat → Int32} {c : Nat} (h : ¬ c = 14 ∧ ¬ c = 1 ∧ ¬ c = 80741649 ∧ ¬ c = 4 ∧ ¬ c = 8 ∧ ¬ c = 8389905 ∧ ¬ c = 65012112) {k hh o : Nat} (m : Nat) : z_ej k hh o c 0 m ∨ z_mui xs c 0 m = 0 := .inr (mui_0 h 0 m)
theorem ej_h {xs : Nat → Int32} (m : Nat) {o : Nat} : z_ej 0 0 o 8389905 0 m ∨ z_mui xs 8389905 0 m = 0 := by
  by_cases e : m < 6
  · left; unfold z_ej; omega
  · right
    unfold z_mui
    rw [if_neg (by decide), if_neg (by decide), if_neg (by decide), if_neg (by decide), if_neg (by decide), if_pos rfl, if_pos rfl]
    exact getD_0 (by show 6 ≤ m; omega)
theorem ej_k {xs : Nat → Int32} (m : Nat) {h o : Nat} : z_ej 0 h o 65012112 0 m ∨ z_mui xs 65012112 0 m = 0 := by
  by_cases e : m < 12
  · left; unfold z_ej; omega
  · right
    unfold z_mui
    rw [if_neg (by decide), if_neg (by decide), if_neg (by decide), if_neg (by decide), if_neg (by decide), if_neg (by decide), if_pos rfl, if_pos rfl]
    exact getD_0 (by show 12 ≤ m; omega)
theorem mc_init {L : Nat} {xs : Nat → Int32} {f : Nat → Nat} {ln sl : Nat} {σ : z_St} (h : z_cs L xs (z_um 0) (z_ej 0 0 0) (z_e8 [3, 5, 8, 9, 10, 11, 12, 13, 14, 15, 16, 17, 18, 19, 20, 21, 22, 23, 24, 25, 26, 27, 28, 29, 30, 31, 32, 33, 36, 37, 38, 39, 41, 42, 43, 44, 45, 46, 47, 48, 50, 51, 52, 53, 54, 55, 56, 57, 58, 60, 61, 62, 63, 64, 65, 76, 77, 78, 79, 85, 86, 87]) f ln sl σ) (hf : f 1 = 276 ∧ f 80741649 = 276) {d : Nat} {Q : z_St → Option z_V → Prop} (k : ∀ σ' f' ln' sl', z_cs L xs (z_um 71303345) (z_ej 12 6 2) (z_e8 []) f' ln' sl' σ' → f' 1 = 276 ∧ f' 80741649 = 276 → ln' ≤ ln + 100 → sl' ≤ sl + 50000 → Q σ' none) : wp (zD (d + 1) 84 [.inr (.inr (some (8, 0)))] σ) Q := by
  refine wp_eq (show zD (d + 1) 84 [.inr (.inr (some (8, 0)))] σ = E xP84 (zD d) 0 z_L8 [] σ from rfl) (wp_eq (E_fix (pg84 ▸ pg_tame 84) (zm d) 0 _ _ _) ?_)
  show wp (z_run xB84_0.1 xB84_0.2 (zD d) z_L8 [] σ (E xP84 (zD d))) Q
  unfold xB84_0
  dsimp only
  refine lw_1 (fun _ => rfl) ?_
  show wp (gd (z_w [] ≤ 8) (z_run _ _ (zD d) z_L8 [] σ (E xP84 (zD d)))) Q
  refine wp_gd (by decide) ?_
  refine tw_arr h hf 7341329 (by decide) (by decide) rfl (fun m => mj_I (by decide) m) (fun m => mur_0 (by decide) 0 m) rfl fun σ f h hf => ?_
  refine tw_arr h hf 8389905 (by decide) (by decide) rfl (fun m => ej_h m) (fun m => mur_0 (by decide) 0 m) rfl fun σ f h hf => ?_
  refine tw_arr h hf 9442321 (by decide) (by decide) rfl (fun m => mj_I (by decide) m) (fun m => mur_0 (by decide) 0 m) rfl fun σ f h hf => ?_
  refine tw_arr h hf 10485904 (by decide) (by decide) rfl (fun m => mj_I (by decide) m) (fun m => mur_0 (by decide) 0 m) rfl fun σ f h hf => ?_
  refine tw_arr h hf 11534482 (by decide) (by decide) rfl (fun m => mj_I (by decide) m) (fun m => mur_0 (by decide) 0 m) rfl fun σ f h hf => ?_
  refine tw_arr h hf 12583056 (by decide) (by decide) rfl (fun m => mj_I (by decide) m) (fun m => mur_0 (by decide) 0 m) rfl fun σ f h hf => ?_
  refine tw_arr h hf 13631632 (by decide) (by decide) rfl (fun m => mj_I (by decide) m) (fun m => mur_0 (by decide) 0 m) rfl fun σ f h hf => ?_
  refine tw_arr h hf 14680208 (by decide) (by decide) rfl (fun m => mj_I (by decide) m) (fun m => mur_0 (by decide) 0 m) rfl fun σ f h hf => ?_
  refine tw_arr h hf 15728784 (by decide) (by decide) rfl (fun m => mj_I (by decide) m) (fun m => mur_0 (by decide) 0 m) rfl fun σ f h hf => ?_
  refine tw_arr h hf 16777360 (by decide) (by decide) rfl (fun m => mj_I (by decide) m) (fun m => mur_0 (by decide) 0 m) rfl fun σ f h hf => ?_
  refine tw_arr h hf 17825938 (by decide) (by decide) rfl (fun m => mj_I (by decide) m) (fun m => mur_0 (by decide) 0 m) rfl fun σ f h hf => ?_
  refine tw_arr h hf 18874512 (by decide) (by decide) rfl (fun m => mj_I (by decide) m) (fun m => mur_0 (by decide) 0 m) rfl fun σ f h hf => ?_
  refine tw_arr h hf 19923088 (by decide) (by decide) rfl (fun m => mj_I (by decide) m) (fun m => mur_0 (by decide) 0 m) rfl fun σ f h hf => ?_
  refine tw_arr h hf 20971664 (by decide) (by decide) rfl (fun m => mj_I (by decide) m) (fun m => mur_0 (by decide) 0 m) rfl fun σ f h hf => ?_
  refine tw_arr h hf 22020240 (by decide) (by decide) rfl (fun m => mj_I (by decide) m) (fun m => mur_0 (by decide) 0 m) rfl fun σ f h hf => ?_
  refine tw_arr h hf 23068816 (by decide) (by decide) rfl (fun m => mj_I (by decide) m) (fun m => mur_0 (by decide) 0 m) rfl fun σ f h hf => ?_
  refine tw_arr h hf 24117392 (by decide) (by decide) rfl (fun m => mj_I (by decide) m) (fun m => mur_0 (by decide) 0 m) rfl fun σ f h hf => ?_
  refine tw_arr h hf 25165968 (by decide) (by decide) rfl (fun m => mj_I (by decide) m) (fun m => mur_0 (by decide) 0 m) rfl fun σ f h hf => ?_
  refine tw_arr h hf 26214544 (by decide) (by decide) rfl (fun m => mj_I (by decide) m) (fun m => mur_0 (by decide) 0 m) rfl fun σ f h hf => ?_
  refine tw_arr h hf 27263120 (by decide) (by decide) rfl (fun m => mj_I (by decide) m) (fun m => mur_0 (by decide) 0 m) rfl fun σ f h hf => ?_
  refine tw_arr h hf 28311856 (by decide) (by decide) rfl (fun m => mj_I (by decide) m) (fun m => mur_0 (by decide) 0 m) rfl fun σ f h hf => ?_
  refine tw_arr h hf 29360432 (by decide) (by decide) rfl (fun m => mj_I (by decide) m) (fun m => mur_0 (by decide) 0 m) rfl fun σ f h hf => ?_
  refine tw_arr h hf 30409008 (by decide) (by decide) rfl (fun m => mj_I (by decide) m) (fun m => mur_0 (by decide) 0 m) rfl fun σ f h hf => ?_
  refine tw_arr h hf 31630097 (by decide) (by decide) rfl (fun m => mj_I (by decide) m) (fun m => mur_0 (by decide) 0 m) rfl fun σ f h hf => ?_
  refine tw_arr h hf 32506160 (by decide) (by decide) rfl (fun m => mj_I (by decide) m) (fun m => mur_0 (by decide) 0 m) rfl fun σ f h hf => ?_
  refine tw_arr h hf 34130449 (by decide) (by decide) rfl (fun m => mj_I (by decide) m) (fun m => mur_0 (by decide) 0 m) rfl fun σ f h hf => ?_
  refine tw_arr h hf 34603312 (by decide) (by decide) rfl (fun m => mj_I (by decide) m) (fun m => mur_0 (by decide) 0 m) rfl fun σ f h hf => ?_
  refine tw_arr h hf 35651888 (by decide) (by decide) rfl (fun m => mj_I (by decide) m) (fun m => mur_0 (by decide) 0 m) rfl fun σ f h hf => ?_
  refine tw_int (FI := z_ej 0 0 1) h (slot := 34) rfl (fun c d m q hn => by unfold z_ej at q ⊢; omega) fun σ h => ?_
  refine tw_arr h hf 36700691 (by decide) (by decide) rfl (fun m => mj_I (by decide) m) (fun m => mur_0 (by decide) 0 m) rfl fun σ f h hf => ?_
  refine tw_arr h hf 37749267 (by decide) (by decide) rfl (fun m => mj_I (by decide) m) (fun m => mur_0 (by decide) 0 m) rfl fun σ f h hf => ?_
  refine tw_arr h hf 38797843 (by decide) (by decide) rfl (fun m => mj_I (by decide) m) (fun m => mur_0 (by decide) 0 m) rfl fun σ f h hf => ?_
  refine tw_arr h hf 39846419 (by decide) (by decide) rfl (fun m => mj_I (by decide) m) (fun m => mur_0 (by decide) 0 m) rfl fun σ f h hf => ?_
  refine tw_arr h hf 40915473 (by decide) (by decide) rfl (fun m => mj_I (by decide) m) (fun m => mur_0 (by decide) 0 m) rfl fun σ f h hf => ?_
  refine tw_arr h hf 41964049 (by decide) (by decide) rfl (fun m => mj_I (by decide) m) (fun m => mur_0 (by decide) 0 m) rfl fun σ f h hf => ?_
  refine tw_arr h hf 43012625 (by decide) (by decide) rfl (fun m => mj_I (by decide) m) (fun m => mur_0 (by decide) 0 m) rfl fun σ f h hf => ?_
  refine tw_arr h hf 44040720 (by decide) (by decide) rfl (fun m => mj_I (by decide) m) (fun m => mur_0 (by decide) 0 m) rfl fun σ f h hf => ?_
  refine tw_arr h hf 45089299 (by decide) (by decide) rfl (fun m => mj_I (by decide) m) (fun m => mur_0 (by decide) 0 m) rfl fun σ f h hf => ?_
  refine tw_arr h hf 46137875 (by decide) (by decide) rfl (fun m => mj_I (by decide) m) (fun m => mur_0 (by decide) 0 m) rfl fun σ f h hf => ?_
  refine tw_arr h hf 47186448 (by decide) (by decide) rfl (fun m => mj_I (by decide) m) (fun m => mur_0 (by decide) 0 m) rfl fun σ f h hf => ?_
  refine tw_arr h hf 48235024 (by decide) (by decide) rfl (fun m => mj_I (by decide) m) (fun m => mur_0 (by decide) 0 m) rfl fun σ f h hf => ?_
  refine tw_arr h hf 49367057 (by decide) (by decide) rfl (fun m => mj_I (by decide) m) (fun m => mur_0 (by decide) 0 m) rfl fun σ f h hf => ?_
  refine tw_arr h hf 50415633 (by decide) (by decide) rfl (fun m => mj_I (by decide) m) (fun m => mur_0 (by decide) 0 m) rfl fun σ f h hf => ?_
  refine tw_arr h hf 51464209 (by decide) (by decide) rfl (fun m => mj_I (by decide) m) (fun m => mur_0 (by decide) 0 m) rfl fun σ f h hf => ?_
  refine tw_arr h hf 52430867 (by decide) (by decide) rfl (fun m => mj_I (by decide) m) (fun m => mur_0 (by decide) 0 m) rfl fun σ f h hf => ?_
  refine tw_arr h hf 53479440 (by decide) (by decide) rfl (fun m => mj_I (by decide) m) (fun m => mur_0 (by decide) 0 m) rfl fun σ f h hf => ?_
  refine tw_arr h hf 54528016 (by decide) (by decide) rfl (fun m => mj_I (by decide) m) (fun m => mur_0 (by decide) 0 m) rfl fun σ f h hf => ?_
  refine tw_arr h hf 55576592 (by decide) (by decide) rfl (fun m => mj_I (by decide) m) (fun m => mur_0 (by decide) 0 m) rfl fun σ f h hf => ?_
  refine tw_arr h hf 56625168 (by decide) (by decide) rfl (fun m => mj_I (by decide) m) (fun m => mur_0 (by decide) 0 m) rfl fun σ f h hf => ?_
  refine tw_arr h hf 57673744 (by decide) (by decide) rfl (fun m => mj_I (by decide) m) (fun m => mur_0 (by decide) 0 m) rfl fun σ f h hf => ?_
  refine tw_arr h hf 59058193 (by decide) (by decide) rfl (fun m => mj_I (by decide) m) (fun m => mur_0 (by decide) 0 m) rfl fun σ f h hf => ?_
  refine tw_arr h hf 59769904 (by decide) (by decide) rfl (fun m => mj_I (by decide) m) (fun m => mur_0 (by decide) 0 m) rfl fun σ f h hf => ?_
  refine tw_arr h hf 60860721 (by decide) (by decide) rfl (fun m => mj_I (by decide) m) (fun m => mur_0 (by decide) 0 m) rfl fun σ f h hf => ?_
  refine tw_arr h hf 61867056 (by decide) (by decide) rfl (fun m => mj_I (by decide) m) (fun m => mur_0 (by decide) 0 m) rfl fun σ f h hf => ?_
  refine tw_arr h hf 62915632 (by decide) (by decide) rfl (fun m => mj_I (by decide) m) (fun m => mur_0 (by decide) 0 m) rfl fun σ f h hf => ?_
  refine tw_arr h hf 63985553 (by decide) (by decide) rfl (fun m => mj_I (by decide) m) (fun m => mur_0 (by decide) 0 m) rfl fun σ f h hf => ?_
  refine lw_1 (fun _ => rfl) (lw_1 (fun _ => rfl) ?_)
  have e0 : cn σ 65012112 + z_off 65012112 = 0 := by
    rw [h.2.2.2.2.2.2 65012112 (.inr (.inr (.inr (by decide)))), if_neg (by decide)]
    rfl
  have a1 := cs_A (V := z_um 65012113) (FI := z_ej 0 0 1) (FR := z_e8 [76, 77, 78, 79, 85, 86, 87]) h (a := 65012112) (n := 0) (by decide) (fun m => ej_k m) (fun m => .inr (mur_0 (by decide) 0 m)) (fun _ _ _ q => q) (fun _ _ _ q => q) (fun b hb => by unfold z_um at hb ⊢; omega)
  have hf : va_up f 65012112 (f 65012112 + 1) 1 = 276 ∧ va_up f 65012112 (f 65012112 + 1) 80741649 = 276 := hf
  generalize va_up f 65012112 (f 65012112 + 1) = f at a1 hf
  show wp (gd ((12 : Int32) = 12) (z_run _ _ (zD d) z_L8 (.inr (.inr (some (65012112, cn σ 65012112 + z_off 65012112))) :: .inr (.inr (some (8, 0))) :: []) (nA σ 65012112 (cn σ 65012112 + z_off 65012112)) (E xP84 (zD d)))) Q
  refine wp_gd rfl ?_
  rw [e0]
  have h := a1
  clear a1
  generalize nA σ 65012112 0 = σ at h ⊢
  refine tw_key (FI := z_ej 1 0 1) h aty_65012112 0 rfl (by rw [alen_65012112]; decide) (by rw [alen_65012112]; decide) rfl (fun c d m q hn => by unfold z_ej at q ⊢; omega) fun σ h => ?_
  refine tw_key (FI := z_ej 2 0 1) h aty_65012112 1 rfl (by rw [alen_65012112]; decide) (by rw [alen_65012112]; decide) rfl (fun c d m q hn => by unfold z_ej at q ⊢; omega) fun σ h => ?_
  refine tw_key (FI := z_ej 3 0 1) h aty_65012112 2 rfl (by rw [alen_65012112]; decide) (by rw [alen_65012112]; decide) rfl (fun c d m q hn => by unfold z_ej at q ⊢; omega) fun σ h => ?_
  refine tw_key (FI := z_ej 4 0 1) h aty_65012112 3 rfl (by rw [alen_65012112]; decide) (by rw [alen_65012112]; decide) rfl (fun c d m q hn => by unfold z_ej at q ⊢; omega) fun σ h => ?_
  refine tw_key (FI := z_ej 5 0 1) h aty_65012112 4 rfl (by rw [alen_65012112]; decide) (by rw [alen_65012112]; decide) rfl (fun c d m q hn => by unfold z_ej at q ⊢; omega) fun σ h => ?_
  refine tw_key (FI := z_ej 6 0 1) h aty_65012112 5 rfl (by rw [alen_65012112]; decide) (by rw [alen_65012112]; decide) rfl (fun c d m q hn => by unfold z_ej at q ⊢; omega) fun σ h => ?_
  refine tw_key (FI := z_ej 7 0 1) h aty_65012112 6 rfl (by rw [alen_65012112]; decide) (by rw [alen_65012112]; decide) rfl (fun c d m q hn => by unfold z_ej at q ⊢; omega) fun σ h => ?_
  refine tw_key (FI := z_ej 8 0 1) h aty_65012112 7 rfl (by rw [alen_65012112]; decide) (by rw [alen_65012112]; decide) rfl (fun c d m q hn => by unfold z_ej at q ⊢; omega) fun σ h => ?_
  refine tw_key (FI := z_ej 9 0 1) h aty_65012112 8 rfl (by rw [alen_65012112]; decide) (by rw [alen_65012112]; decide) rfl (fun c d m q hn => by unfold z_ej at q ⊢; omega) fun σ h => ?_
  refine tw_key (FI := z_ej 10 0 1) h aty_65012112 9 rfl (by rw [alen_65012112]; decide) (by rw [alen_65012112]; decide) rfl (fun c d m q hn => by unfold z_ej at q ⊢; omega) fun σ h => ?_
  refine tw_key (FI := z_ej 11 0 1) h aty_65012112 10 rfl (by rw [alen_65012112]; decide) (by rw [alen_65012112]; decide) rfl (fun c d m q hn => by unfold z_ej at q ⊢; omega) fun σ h => ?_
  refine tw_key (FI := z_ej 12 0 1) h aty_65012112 11 rfl (by rw [alen_65012112]; decide) (by rw [alen_65012112]; decide) rfl (fun c d m q hn => by unfold z_ej at q ⊢; omega) fun σ h => ?_
  have h := cs_R (FR := z_e8 [77, 78, 79, 85, 86, 87]) h (a := 8) (b := 76) (n := 0) (x := some (65012112, 0)) rfl (fun c d m q hn => by
    obtain ⟨q1, q2, q3⟩ := q
    refine ⟨q1, q2, ?_⟩
    rcases List.mem_cons.mp q3 with g | g
    · exact absurd ⟨q1, g, q2⟩ hn
    · exact g)
  show wp (gd ((8 : Nat) = 8) (z_run _ _ (zD d) z_L8 [] (wR σ 8 76 0 (some (65012112, 0))) (E xP84 (zD d)))) Q
  refine wp_gd rfl ?_
  generalize wR σ 8 76 0 (some (65012112, 0)) = σ at h ⊢
  refine tw_arr h hf 66060688 (by decide) (by decide) rfl (fun m => mj_I (by decide) m) (fun m => mur_0 (by decide) 0 m) rfl fun σ f h hf => ?_
  refine tw_arr h hf 67109264 (by decide) (by decide) rfl (fun m => mj_I (by decide) m) (fun m => mur_0 (by decide) 0 m) rfl fun σ f h hf => ?_
  refine tw_arr h hf 68157840 (by decide) (by decide) rfl (fun m => mj_I (by decide) m) (fun m => mur_0 (by decide) 0 m) rfl fun σ f h hf => ?_
  refine tw_arr h hf 69206192 (by decide) (by decide) rfl (fun m => mj_I (by decide) m) (fun m => mur_0 (by decide) 0 m) rfl fun σ f h hf => ?_
  refine tw_arr h hf 70254768 (by decide) (by decide) rfl (fun m => mj_I (by decide) m) (fun m => mur_0 (by decide) 0 m) rfl fun σ f h hf => ?_
  refine tw_arr h hf 71303344 (by decide) (by decide) rfl (fun m => mj_I (by decide) m) (fun m => mur_0 (by decide) 0 m) rfl fun σ f h hf => ?_
  refine tw_oct (FI := z_ej 12 1 1) h (fun g => by unfold z_e8 at g; exact absurd g.2.2 (by decide)) 0 rfl (by decide) ((by decide : nb 109 = 109).trans rfl) (fun c d m q hn => by unfold z_ej at q ⊢; omega) fun σ h => ?_
  refine tw_oct (FI := z_ej 12 2 1) h (fun g => by unfold z_e8 at g; exact absurd g.2.2 (by decide)) 1 rfl (by decide) ((by decide : nb 46 = 46).trans rfl) (fun c d m q hn => by unfold z_ej at q ⊢; omega) fun σ h => ?_
  refine tw_oct (FI := z_ej 12 3 1) h (fun g => by unfold z_e8 at g; exact absurd g.2.2 (by decide)) 2 rfl (by decide) ((by decide : nb 104 = 104).trans rfl) (fun c d m q hn => by unfold z_ej at q ⊢; omega) fun σ h => ?_
  refine tw_oct (FI := z_ej 12 4 1) h (fun g => by unfold z_e8 at g; exact absurd g.2.2 (by decide)) 3 rfl (by decide) ((by decide : nb 111 = 111).trans rfl) (fun c d m q hn => by unfold z_ej at q ⊢; omega) fun σ h => ?_
  refine tw_oct (FI := z_ej 12 5 1) h (fun g => by unfold z_e8 at g; exact absurd g.2.2 (by decide)) 4 rfl (by decide) ((by decide : nb 109 = 109).trans rfl) (fun c d m q hn => by unfold z_ej at q ⊢; omega) fun σ h => ?_
  refine tw_oct (FI := z_ej 12 6 1) h (fun g => by unfold z_e8 at g; exact absurd g.2.2 (by decide)) 5 rfl (by decide) ((by decide : nb 101 = 101).trans rfl) (fun c d m q hn => by unfold z_ej at q ⊢; omega) fun σ h => ?_
  refine tw_int (FI := z_ej 12 6 2) h (slot := 6) rfl (fun c d m q hn => by unfold z_ej at q ⊢; omega) fun σ h => ?_
  show wp (some (σ, none)) Q
  have y7341329 := alen_7341329
  have y8389905 := alen_8389905
  have y9442321 := alen_9442321
  have y10485904 := alen_10485904
  have y11534482 := alen_11534482
  have y12583056 := alen_12583056
  have y13631632 := alen_13631632
  have y14680208 := alen_14680208
  have y15728784 := alen_15728784
  have y16777360 := alen_16777360
  have y17825938 := alen_17825938
  have y18874512 := alen_18874512
  have y19923088 := alen_19923088
  have y20971664 := alen_20971664
  have y22020240 := alen_22020240
  have y23068816 := alen_23068816
  have y24117392 := alen_24117392
  have y25165968 := alen_25165968
  have y26214544 := alen_26214544
  have y27263120 := alen_27263120
  have y28311856 := alen_28311856
  have y29360432 := alen_29360432
  have y30409008 := alen_30409008
  have y31630097 := alen_31630097
  have y32506160 := alen_32506160
  have y34130449 := alen_34130449
  have y34603312 := alen_34603312
  have y35651888 := alen_35651888
  have y36700691 := alen_36700691
  have y37749267 := alen_37749267
  have y38797843 := alen_38797843
  have y39846419 := alen_39846419
  have y40915473 := alen_40915473
  have y41964049 := alen_41964049
  have y43012625 := alen_43012625
  have y44040720 := alen_44040720
  have y45089299 := alen_45089299
  have y46137875 := alen_46137875
  have y47186448 := alen_47186448
  have y48235024 := alen_48235024
  have y49367057 := alen_49367057
  have y50415633 := alen_50415633
  have y51464209 := alen_51464209
  have y52430867 := alen_52430867
  have y53479440 := alen_53479440
  have y54528016 := alen_54528016
  have y55576592 := alen_55576592
  have y56625168 := alen_56625168
  have y57673744 := alen_57673744
  have y59058193 := alen_59058193
  have y59769904 := alen_59769904
  have y60860721 := alen_60860721
  have y61867056 := alen_61867056
  have y62915632 := alen_62915632
  have y63985553 := alen_63985553
  have y65012112 := alen_65012112
  have y66060688 := alen_66060688
  have y67109264 := alen_67109264
  have y68157840 := alen_68157840
  have y69206192 := alen_69206192
  have y70254768 := alen_70254768
  have y71303344 := alen_71303344
  exact wp_ret (k σ f _ _ h hf (by omega) (by omega))
