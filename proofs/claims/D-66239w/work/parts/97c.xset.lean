/-! PART 97c (src 97c.xset.src, printed by wip/gen/g97b.py) -/
set_option maxHeartbeats 2000000
set_option maxRecDepth 10000
theorem cs_add {L : Nat} {xs : Nat → Int32} {U : Nat → Prop} {EI ER FI : Nat → Nat → Nat → Prop} {f : Nat → Nat} {ln sl : Nat} {σ : z_St} {t n : Nat} (h : z_cs L xs U EI ER f ln sl σ) (hs : gI σ 1 1 t = Int32.ofNat n) (hn : n < 40) (hp : ¬ ER 1 0 t) (he : EI 1 1 t) {x : Int32} (hx : nb x = z_mui xs 80741649 t n) (m : ∀ c d m, EI c d m → ¬ (c = 80741649 ∧ d = t ∧ m = n) → FI c d m) {d : Nat} {F : z_St → Option z_R} {Q : z_St → Option z_V → Prop} (k : ∀ σ', z_cs L xs U FI ER f ln sl σ' → gI σ' 1 1 t = Int32.ofNat (n + 1) → wp (F σ') Q) : wp (cv (zD (d + 1) 240 [.inr (.inr (some (1, t))), .inl x] σ) F) Q := by
  have rp : gR σ 1 0 t = some (80741649, t) := (h.2.2.1 1 0 t hp).trans (by
    unfold z_mur
    rw [if_neg (by decide), if_pos rfl, if_pos rfl])
  refine wp_cv (wp_eq (c240 ..) (wp_eq (e240_0 ..) (wp_sw (wp_dr rp (wp_gd aty_80741649 (wp_gd ?_ (wp_sw (wp_ret ⟨rfl, ?_⟩))))))))
  · rw [hs]
    show zin (Int32.ofNat n) (aLen 80741649)
    rw [alen_80741649]
    exact zin_io hn (by decide)
  · dsimp only
    rw [hs, io_add_l, io_nat (by omega), nb_un, nb_un, nb_nb]
    have a1 := cs_I (FI := EI) h (a := 1) (b := 1) (n := t) (x := Int32.ofNat (n + 1)) (.inr he) (fun _ _ _ q _ => q)
    have a2 := cs_I (FI := FI) a1 (a := 80741649) (b := t) (n := n) (x := nb x) (.inl hx) m
    refine k _ a2 ?_
    rw [gI_wI, if_neg (fun g => absurd g.1 (by decide)), gI_wI, if_pos ⟨rfl, rfl, rfl⟩]
theorem cs_set1 {L : Nat} {xs : Nat → Int32} {U : Nat → Prop} {ER : Nat → Nat → Nat → Prop} {f : Nat → Nat} {ln sl : Nat} {σ : z_St} (h : z_cs L xs U (z_ei 0 0 0) ER f ln sl σ) (hp : ¬ ER 1 0 1) {d : Nat} {Q : z_St → Option z_V → Prop} (k : ∀ σ', z_cs L xs U (z_ei 7 0 0) ER f ln sl σ' → Q σ' none) : wp (zD (d + 2) 246 [.inr (.inr (some (1, 1))), .inl 109, .inl 46, .inl 104, .inl 111, .inl 109, .inl 101] σ) Q := by
  refine wp_eq (c246 ..) (wp_eq (e246_0 ..) (wp_cv (wp_eq (c239 ..) (wp_eq (e239_0 ..) (wp_sw (wp_ret ⟨rfl, ?_⟩))))))
  have h := cs_I (FI := z_ei 0 0 0) h (a := 1) (b := 1) (n := 1) (x := 0) (.inr (.inl ⟨rfl, rfl, by unfold z_e1t; omega⟩)) (fun _ _ _ q _ => q)
  have hs : gI (wI σ 1 1 1 0) 1 1 1 = Int32.ofNat 0 := by rw [gI_wI, if_pos ⟨rfl, rfl, rfl⟩]; rfl
  generalize wI σ 1 1 1 0 = σ at h hs ⊢
  refine cs_add (FI := z_ei 1 0 0) h hs (by decide) hp (.inl ⟨rfl, rfl, by unfold z_e1t; omega⟩) ((by decide : nb 109 = 109).trans rfl) (fun c d m q hn => ei_8 (fun m h => by unfold z_e1t at h ⊢; omega) (fun d m h hn => by unfold z_e8t at h ⊢; omega) q hn) fun σ h hs => ?_
  refine cs_add (FI := z_ei 2 0 0) h hs (by decide) hp (.inl ⟨rfl, rfl, by unfold z_e1t; omega⟩) ((by decide : nb 46 = 46).trans rfl) (fun c d m q hn => ei_8 (fun m h => by unfold z_e1t at h ⊢; omega) (fun d m h hn => by unfold z_e8t at h ⊢; omega) q hn) fun σ h hs => ?_
  refine cs_add (FI := z_ei 3 0 0) h hs (by decide) hp (.inl ⟨rfl, rfl, by unfold z_e1t; omega⟩) ((by decide : nb 104 = 104).trans rfl) (fun c d m q hn => ei_8 (fun m h => by unfold z_e1t at h ⊢; omega) (fun d m h hn => by unfold z_e8t at h ⊢; omega) q hn) fun σ h hs => ?_
  refine cs_add (FI := z_ei 4 0 0) h hs (by decide) hp (.inl ⟨rfl, rfl, by unfold z_e1t; omega⟩) ((by decide : nb 111 = 111).trans rfl) (fun c d m q hn => ei_8 (fun m h => by unfold z_e1t at h ⊢; omega) (fun d m h hn => by unfold z_e8t at h ⊢; omega) q hn) fun σ h hs => ?_
  refine wp_if (fun g => absurd g (by decide)) (fun _ => wp_eq (e246_2 ..) ?_)
  refine cs_add (FI := z_ei 5 0 0) h hs (by decide) hp (.inl ⟨rfl, rfl, by unfold z_e1t; omega⟩) ((by decide : nb 109 = 109).trans rfl) (fun c d m q hn => ei_8 (fun m h => by unfold z_e1t at h ⊢; omega) (fun d m h hn => by unfold z_e8t at h ⊢; omega) q hn) fun σ h hs => ?_
  refine cs_add (FI := z_ei 6 0 0) h hs (by decide) hp (.inl ⟨rfl, rfl, by unfold z_e1t; omega⟩) ((by decide : nb 101 = 101).trans rfl) (fun c d m q hn => ei_8 (fun m h => by unfold z_e1t at h ⊢; omega) (fun d m h hn => by unfold z_e8t at h ⊢; omega) q hn) fun σ h hs => ?_
  refine wp_ret (k σ (cs_cl h (a := 1) (b := 1) (n := 1) (hs.trans ?_) (fun c d m q hn => ei_1 (fun m h hn => by unfold z_e1t at h ⊢; omega) (fun d m h => by unfold z_e8t at h ⊢; omega) q hn)))
  rfl
theorem cs_set2 {L : Nat} {xs : Nat → Int32} {U : Nat → Prop} {ER : Nat → Nat → Nat → Prop} {f : Nat → Nat} {ln sl : Nat} {σ : z_St} (h : z_cs L xs U (z_ei 7 0 0) ER f ln sl σ) (hp : ¬ ER 1 0 2) {d : Nat} {Q : z_St → Option z_V → Prop} (k : ∀ σ', z_cs L xs U (z_ei 7 5 0) ER f ln sl σ' → Q σ' none) : wp (zD (d + 2) 246 [.inr (.inr (some (1, 2))), .inl 104, .inl 111, .inl 109, .inl 101, .inl 0, .inl 0] σ) Q := by
  refine wp_eq (c246 ..) (wp_eq (e246_0 ..) (wp_cv (wp_eq (c239 ..) (wp_eq (e239_0 ..) (wp_sw (wp_ret ⟨rfl, ?_⟩))))))
  have h := cs_I (FI := z_ei 7 0 0) h (a := 1) (b := 1) (n := 2) (x := 0) (.inr (.inl ⟨rfl, rfl, by unfold z_e1t; omega⟩)) (fun _ _ _ q _ => q)
  have hs : gI (wI σ 1 1 2 0) 1 1 2 = Int32.ofNat 0 := by rw [gI_wI, if_pos ⟨rfl, rfl, rfl⟩]; rfl
  generalize wI σ 1 1 2 0 = σ at h hs ⊢
  refine cs_add (FI := z_ei 7 1 0) h hs (by decide) hp (.inl ⟨rfl, rfl, by unfold z_e1t; omega⟩) ((by decide : nb 104 = 104).trans rfl) (fun c d m q hn => ei_8 (fun m h => by unfold z_e1t at h ⊢; omega) (fun d m h hn => by unfold z_e8t at h ⊢; omega) q hn) fun σ h hs => ?_
  refine cs_add (FI := z_ei 7 2 0) h hs (by decide) hp (.inl ⟨rfl, rfl, by unfold z_e1t; omega⟩) ((by decide : nb 111 = 111).trans rfl) (fun c d m q hn => ei_8 (fun m h => by unfold z_e1t at h ⊢; omega) (fun d m h hn => by unfold z_e8t at h ⊢; omega) q hn) fun σ h hs => ?_
  refine cs_add (FI := z_ei 7 3 0) h hs (by decide) hp (.inl ⟨rfl, rfl, by unfold z_e1t; omega⟩) ((by decide : nb 109 = 109).trans rfl) (fun c d m q hn => ei_8 (fun m h => by unfold z_e1t at h ⊢; omega) (fun d m h hn => by unfold z_e8t at h ⊢; omega) q hn) fun σ h hs => ?_
  refine cs_add (FI := z_ei 7 4 0) h hs (by decide) hp (.inl ⟨rfl, rfl, by unfold z_e1t; omega⟩) ((by decide : nb 101 = 101).trans rfl) (fun c d m q hn => ei_8 (fun m h => by unfold z_e1t at h ⊢; omega) (fun d m h hn => by unfold z_e8t at h ⊢; omega) q hn) fun σ h hs => ?_
  refine wp_if (fun _ => wp_eq (e246_1 ..) ?_) (fun g => absurd rfl g)
  refine wp_ret (k σ (cs_cl h (a := 1) (b := 1) (n := 2) (hs.trans ?_) (fun c d m q hn => ei_1 (fun m h hn => by unfold z_e1t at h ⊢; omega) (fun d m h => by unfold z_e8t at h ⊢; omega) q hn)))
  rfl
theorem cs_set3 {L : Nat} {xs : Nat → Int32} {U : Nat → Prop} {ER : Nat → Nat → Nat → Prop} {f : Nat → Nat} {ln sl : Nat} {σ : z_St} (h : z_cs L xs U (z_ei 7 5 0) ER f ln sl σ) (hp : ¬ ER 1 0 3) {d : Nat} {Q : z_St → Option z_V → Prop} (k : ∀ σ', z_cs L xs U (z_ei 7 5 5) ER f ln sl σ' → Q σ' none) : wp (zD (d + 2) 246 [.inr (.inr (some (1, 3))), .inl 112, .inl 101, .inl 101, .inl 114, .inl 0, .inl 0] σ) Q := by
  refine wp_eq (c246 ..) (wp_eq (e246_0 ..) (wp_cv (wp_eq (c239 ..) (wp_eq (e239_0 ..) (wp_sw (wp_ret ⟨rfl, ?_⟩))))))
  have h := cs_I (FI := z_ei 7 5 0) h (a := 1) (b := 1) (n := 3) (x := 0) (.inr (.inl ⟨rfl, rfl, by unfold z_e1t; omega⟩)) (fun _ _ _ q _ => q)
  have hs : gI (wI σ 1 1 3 0) 1 1 3 = Int32.ofNat 0 := by rw [gI_wI, if_pos ⟨rfl, rfl, rfl⟩]; rfl
  generalize wI σ 1 1 3 0 = σ at h hs ⊢
  refine cs_add (FI := z_ei 7 5 1) h hs (by decide) hp (.inl ⟨rfl, rfl, by unfold z_e1t; omega⟩) ((by decide : nb 112 = 112).trans rfl) (fun c d m q hn => ei_8 (fun m h => by unfold z_e1t at h ⊢; omega) (fun d m h hn => by unfold z_e8t at h ⊢; omega) q hn) fun σ h hs => ?_
  refine cs_add (FI := z_ei 7 5 2) h hs (by decide) hp (.inl ⟨rfl, rfl, by unfold z_e1t; omega⟩) ((by decide : nb 101 = 101).trans rfl) (fun c d m q hn => ei_8 (fun m h => by unfold z_e1t at h ⊢; omega) (fun d m h hn => by unfold z_e8t at h ⊢; omega) q hn) fun σ h hs => ?_
  refine cs_add (FI := z_ei 7 5 3) h hs (by decide) hp (.inl ⟨rfl, rfl, by unfold z_e1t; omega⟩) ((by decide : nb 101 = 101).trans rfl) (fun c d m q hn => ei_8 (fun m h => by unfold z_e1t at h ⊢; omega) (fun d m h hn => by unfold z_e8t at h ⊢; omega) q hn) fun σ h hs => ?_
  refine cs_add (FI := z_ei 7 5 4) h hs (by decide) hp (.inl ⟨rfl, rfl, by unfold z_e1t; omega⟩) ((by decide : nb 114 = 114).trans rfl) (fun c d m q hn => ei_8 (fun m h => by unfold z_e1t at h ⊢; omega) (fun d m h hn => by unfold z_e8t at h ⊢; omega) q hn) fun σ h hs => ?_
  refine wp_if (fun _ => wp_eq (e246_1 ..) ?_) (fun g => absurd rfl g)
  refine wp_ret (k σ (cs_cl h (a := 1) (b := 1) (n := 3) (hs.trans ?_) (fun c d m q hn => ei_1 (fun m h hn => by unfold z_e1t at h ⊢; omega) (fun d m h => by unfold z_e8t at h ⊢; omega) q hn)))
  rfl
theorem ar_1 (b k : Nat) : b + 1 + k = b + (k + 1) := by omega
theorem ar_2 (b k : Nat) : b + k + 1 = b + 1 + k := by omega
theorem ar_3 (b k : Nat) : b + 3 + 3 * k = b + 3 * (k + 1) := by omega
theorem ar_4 (b k : Nat) : b + 3 * k + 1 = b + 1 + 3 * k := by omega
theorem ar_k1 (ln r : Nat) : ln + 4 * (r + 1) = ln + 1 + 2 + 1 + 4 * r := by omega
theorem ar_k2 (sl r x y : Nat) (hx : x = 5) (hy : y = 300) : sl + 347 * (r + 1) = sl + x + 42 + y + 347 * r := by omega
theorem ar_l1 (ln r : Nat) : ln + 3 * (r + 1) = ln + 1 + 1 + 1 + 3 * r := by omega
theorem ar_l2 (sl r x y z : Nat) (hx : x = 9) (hy : y = 600) (hz : z = 2000) : sl + 2609 * (r + 1) = sl + x + y + z + 2609 * r := by omega
theorem ar_t1 (ln r : Nat) : ln + 7 * (r + 1) = ln + 1 + 2 + 2 + 2 + 7 * r := by omega
theorem ar_t2 (sl r x : Nat) (hx : x = 8) : sl + 134 * (r + 1) = sl + x + 42 + 42 + 42 + 134 * r := by omega
