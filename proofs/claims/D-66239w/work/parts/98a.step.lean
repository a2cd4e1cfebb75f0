/-! PART 98a (src 98a.step.src): the law's loop -/
set_option maxHeartbeats 1600000
set_option maxRecDepth 100000
theorem lw_cv {y n a : Nat} {os : List z_Op} {t : z_Tm} {C : z_O} {ls : z_L} {stk st as : List z_V} {q : z_Ad} {σ : z_St} {j : z_J} {Q : z_St → Option z_V → Prop} (ht : z_take n [] stk = some (as, .inr (.inr (some q)) :: st)) (hq : q.1 = a) (hw : z_w st ≤ 8) (k : wp (C y (.inr (.inr (some q)) :: as) σ) fun σ' r => r = none ∧ wp (z_run os t C ls st σ' j) Q) : wp (z_run (zo_cvV y n a :: os) t C ls stk σ j) Q := by
  show wp (match z_take n [] stk with
    | some (as, st) => (pD fun q => ck (q.1 = a) (cw (clv y (.inr (.inr (some q)) :: as)))) C ls st σ (fun ls st σ => z_run os t C ls st σ j)
    | none => none) Q
  rw [ht]
  show wp (gd (q.1 = a) (gd (z_w st ≤ 8) (cv (C y (.inr (.inr (some q)) :: as) σ) fun σ => z_run os t C ls st σ j))) Q
  exact wp_gd hq (wp_gd hw (wp_cv k))
/-- a step of the law -/
theorem lw_icl {b1 b2 : Nat} {m1 m2 : List Bool} {C : z_O} {ls : z_L} {x y : Int32} {σ : z_St} {j : z_J} {Q : z_St → Option z_V → Prop} (h0 : y < x → wp (j b1 (z_mask m1 ls) [] σ) Q) (h1 : ¬ y < x → wp (j b2 (z_mask m2 ls) [] σ) Q) : wp (z_run [] (zt_icmp (fun x y => y < x) b1 m1 b2 m2) C ls [.inl y, .inl x] σ j) Q := by
  show wp (if y < x then j b1 (z_mask m1 ls) [] σ else j b2 (z_mask m2 ls) [] σ) Q
  exact wp_if h0 h1
theorem law_step {L n i : Nat} {xs : Nat → Int32} {A : w_A} {σ : z_St} (h31 : L ≤ 704) (hi : i + 10 < L) (hn : n + 2000000 < 2147483648) (hJ : z_JJ L n xs A σ) (hN : vN A 5 0 + 2000 ≤ 200000) {Q : z_St → Option z_V → Prop} (k63 : ∀ σ', z_st1c L n xs A σ' → wp (E xP248 (zD 20) 63 (z_LS i) [] σ') Q) : wp (E xP248 (zD 20) 2 (z_LS i) [] σ) Q := by
  refine lw_eq ?_
  show wp (z_run xB248_2.1 xB248_2.2 _ _ _ _ _) Q
  unfold xB248_2
  dsimp only
  refine lw_ld0 hJ.2.2.2.2 hJ.2.2.2.1.1 (by omega) h31 ?_
  refine lw_1 (fun _ => rfl) (lw_1 (fun _ => rfl) (lw_sw ?_))
  refine lw_pick (lc_3 h31 hi hn hJ hN k63) ?_
  refine lw_pick (lc_5 h31 hi hn hJ hN k63) ?_
  refine lw_pick (lc_7 h31 hi hn hJ hN k63) ?_
  refine lw_pick (lc_15 h31 hi hn hJ hN k63) ?_
  refine lw_pick (lc_17 h31 hi hn hJ hN k63) ?_
  refine lw_pick (lc_19 h31 hi hn hJ hN k63) ?_
  refine lw_pick (lc_27 h31 hi hn hJ hN k63) ?_
  refine lw_pick (lc_29 h31 hi hn hJ hN k63) ?_
  refine lw_pick (lc_31 h31 hi hn hJ hN k63) ?_
  refine lw_pick (lc_33 h31 hi hn hJ hN k63) ?_
  refine lw_pick (lc_35 h31 hi hn hJ hN k63) ?_
  refine lw_pick (lc_37 h31 hi hn hJ hN k63) ?_
  refine lw_pick (lc_39 h31 hi hn hJ hN k63) ?_
  refine lw_pick (lc_41 h31 hi hn hJ hN k63) ?_
  refine lw_pick (lc_43 h31 hi hn hJ hN k63) ?_
  refine lw_pick (lc_45 h31 hi hn hJ hN k63) ?_
  refine lw_pick (lc_47 h31 hi hn hJ hN k63) ?_
  refine lw_pick (lc_49 h31 hi hn hJ hN k63) ?_
  refine lw_pick (lc_51 h31 hi hn hJ hN k63) ?_
  refine lw_pick (lc_53 h31 hi hn hJ hN k63) ?_
  refine lw_pick (lc_55 h31 hi hn hJ hN k63) ?_
  refine lw_pick (lc_57 h31 hi hn hJ hN k63) ?_
  refine lw_pick (lc_59 h31 hi hn hJ hN k63) ?_
  refine lw_pick (lc_61 h31 hi hn hJ hN k63) ?_
  exact lw_pick0 (k63 σ ⟨A, ⟨hJ.1, hJ.2.1, V_mono (by omega) hJ.2.2.1, hJ.2.2.2⟩, by omega⟩)
