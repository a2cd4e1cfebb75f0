/-! PART 96b (src 96b.law.src, printed by wip/gen/g96b.py): the law's steps -/
set_option maxHeartbeats 800000
set_option maxRecDepth 100000
theorem ty248 : z_tameM xP248 := sm_tame (xm248 (HC_all launch0 (fun _ => 0, fun _ _ => 0, fun _ => 0, fun _ => 0) 0))
abbrev z_LS (i : Nat) : z_L := [some (.inr (.inr (some (14, 0)))), some (.inr (.inr (some (0, 0)))), some (.inr (.inr (some (8, 0)))), some (.inl (Int32.ofNat i))]
theorem lw_1 {o : z_Op} {os : List z_Op} {t : z_Tm} {C : z_O} {ls ls' : z_L} {st st' : List z_V} {σ σ' : z_St} {j : z_J} {Q : z_St → Option z_V → Prop} (h : ∀ k, o C ls st σ k = k ls' st' σ') (k : wp (z_run os t C ls' st' σ' j) Q) : wp (z_run (o :: os) t C ls st σ j) Q := by
  show wp (o C ls st σ _) Q
  rw [h]
  exact k
theorem lw_ld {os : List z_Op} {t : z_Tm} {C : z_O} {st : List z_V} {σ : z_St} {j : z_J} {Q : z_St → Option z_V → Prop} {i L : Nat} {xs : Nat → Int32} (hx : gI σ 14 0 = xs) (hL : cn σ 14 = L) {y : Int32} (c : Nat) (hy : y = Int32.ofNat c) (hi : i + c < L) (h31 : L ≤ 704) (k : wp (z_run os t C (z_LS i) (.inl (xs (i + c)) :: st) σ j) Q) : wp (z_run (zo_ldA 0 :: zo_ldI 3 :: zo_cI y :: zo_ii (· + ·) :: zo_sld :: os) t C (z_LS i) st σ j) Q := by
  subst hy
  show wp (gd (((14, 0) : z_Ad) = (14, 0)) (gd (zin (Int32.ofNat i + Int32.ofNat c) (cn σ 14)) (z_run os t C (z_LS i) (.inl (gI σ 14 0 (Int32.toNatClampNeg (Int32.ofNat i + Int32.ofNat c))) :: st) σ j))) Q
  refine wp_gd rfl (wp_gd ?_ ?_)
  · rw [io_add, hL]
    exact zin_io hi (by omega)
  · rw [io_add, io_nat (by omega), hx]
    exact k
theorem lw_ld0 {os : List z_Op} {t : z_Tm} {C : z_O} {st : List z_V} {σ : z_St} {j : z_J} {Q : z_St → Option z_V → Prop} {i L : Nat} {xs : Nat → Int32} (hx : gI σ 14 0 = xs) (hL : cn σ 14 = L) (hi : i < L) (h31 : L ≤ 704) (k : wp (z_run os t C (z_LS i) (.inl (xs i) :: st) σ j) Q) : wp (z_run (zo_ldA 0 :: zo_ldI 3 :: zo_sld :: os) t C (z_LS i) st σ j) Q := by
  show wp (gd (((14, 0) : z_Ad) = (14, 0)) (gd (zin (Int32.ofNat i) (cn σ 14)) (z_run os t C (z_LS i) (.inl (gI σ 14 0 (Int32.toNatClampNeg (Int32.ofNat i))) :: st) σ j))) Q
  refine wp_gd rfl (wp_gd ?_ ?_)
  · rw [hL]
    exact zin_io hi (by omega)
  · rw [io_nat (by omega), hx]
    exact k
theorem lw_cr {y n a : Nat} {os : List z_Op} {t : z_Tm} {C : z_O} {ls : z_L} {stk st as : List z_V} {q : z_Ad} {σ : z_St} {j : z_J} {Q : z_St → Option z_V → Prop} (ht : z_take n [] stk = some (as, .inr (.inr (some q)) :: st)) (hq : q.1 = a) (hw : z_w st ≤ 8) (k : wp (C y (.inr (.inr (some q)) :: as) σ) fun σ' r => ∃ w, r = some w ∧ wp (z_run os t C ls (w :: st) σ' j) Q) : wp (z_run (zo_crV y n a :: os) t C ls stk σ j) Q := by
  show wp (match z_take n [] stk with
    | some (as, st) => (pD fun q => ck (q.1 = a) (cw (clr y (.inr (.inr (some q)) :: as)))) C ls st σ (fun ls st σ => z_run os t C ls st σ j)
    | none => none) Q
  rw [ht]
  show wp (gd (q.1 = a) (gd (z_w st ≤ 8) (cr (C y (.inr (.inr (some q)) :: as) σ) fun σ v => z_run os t C ls (v :: st) σ j))) Q
  exact wp_gd hq (wp_gd hw (wp_cr k))
theorem lw_eq {b : Nat} {d : Nat} {ls : z_L} {st : List z_V} {σ : z_St} {Q : z_St → Option z_V → Prop} (h : wp (z_run (xP248 b).1 (xP248 b).2 (zD d) ls st σ (E xP248 (zD d))) Q) : wp (E xP248 (zD d) b ls st σ) Q := wp_eq (E_fix ty248 (zm d) b _ _ _) h
theorem lw_icmp {b1 b2 : Nat} {m1 m2 : List Bool} {C : z_O} {ls : z_L} {x : Int32} {σ : z_St} {j : z_J} {Q : z_St → Option z_V → Prop} (h : wp (j b1 (z_mask m1 ls) [] σ) Q) : wp (z_run [] (zt_icmp (fun x y => x = y) b1 m1 b2 m2) C ls [.inl x, .inl x] σ j) Q := by
  show wp (if x = x then j b1 (z_mask m1 ls) [] σ else j b2 (z_mask m2 ls) [] σ) Q
  rw [if_pos rfl]
  exact h
theorem lw_if0 {b1 b2 : Nat} {m1 m2 : List Bool} {C : z_O} {ls : z_L} {x : Int32} {st : List z_V} {σ : z_St} {j : z_J} {Q : z_St → Option z_V → Prop} (h0 : x = 0 → wp (j b1 (z_mask m1 ls) st σ) Q) (h1 : ¬ x = 0 → wp (j b2 (z_mask m2 ls) st σ) Q) : wp (z_run [] (zt_if (fun x => x = 0) b1 m1 b2 m2) C ls (.inl x :: st) σ j) Q := by
  show wp (if x = 0 then j b1 (z_mask m1 ls) st σ else j b2 (z_mask m2 ls) st σ) Q
  exact wp_if h0 h1
theorem lw_goto {b : Nat} {m : List Bool} {C : z_O} {ls : z_L} {st : List z_V} {σ : z_St} {j : z_J} {Q : z_St → Option z_V → Prop} (h : wp (j b (z_mask m ls) st σ) Q) : wp (z_run [] (zt_goto b m) C ls st σ j) Q := h
theorem lw_sw {d : Nat × List Bool} {cs : List (Int32 × Nat × List Bool)} {C : z_O} {ls : z_L} {x : Int32} {st : List z_V} {σ : z_St} {j : z_J} {Q : z_St → Option z_V → Prop} (h : wp (z_pick d x ls st σ j cs) Q) : wp (z_run [] (zt_sw cs d) C ls (.inl x :: st) σ j) Q := h
theorem lw_pick {d : Nat × List Bool} {c : Int32 × Nat × List Bool} {cs : List (Int32 × Nat × List Bool)} {ls : z_L} {x : Int32} {st : List z_V} {σ : z_St} {j : z_J} {Q : z_St → Option z_V → Prop} (h : wp (j c.2.1 (z_mask c.2.2 ls) st σ) Q) (k : wp (z_pick d x ls st σ j cs) Q) : wp (z_pick d x ls st σ j (c :: cs)) Q := by
  show wp (if x = c.1 then j c.2.1 (z_mask c.2.2 ls) st σ else z_pick d x ls st σ j cs) Q
  exact wp_if (fun _ => h) (fun _ => k)
theorem lw_pick0 {d : Nat × List Bool} {ls : z_L} {x : Int32} {st : List z_V} {σ : z_St} {j : z_J} {Q : z_St → Option z_V → Prop} (h : wp (j d.1 (z_mask d.2 ls) st σ) Q) : wp (z_pick d x ls st σ j []) Q := h
theorem ct_X {L : Nat} {A B : w_A} {T σ σ1 : z_St} (_ : w_X T σ1 B) (h : z_ct L A σ) (e : vN B 0 0 = vN A 0 0 ∧ vN B 1 0 = vN A 1 0) : z_ct L B σ := by
  unfold z_ct at h ⊢
  rw [e.1, e.2]
  exact h
theorem C_CR {n : Nat} {A : w_A} (h : z_C n A) : z_CR A := by
  intro c h1 h8
  rcases h.2.1.2 c h1 h8 with k | ⟨p, hp, k1, k2⟩
  · exact ⟨fun _ => k.2.1, fun g => absurd k.1 g, by rw [k.1]; exact Nat.zero_le _⟩
  · refine ⟨fun g => by omega, fun _ => k2.elim (fun g => .inl g.1) (fun g => .inr g.1), ?_⟩
    have := C_cp h h1 h8 (by omega)
    omega
theorem C_SS {n : Nat} {A : w_A} (h : z_W n A) : ∀ c, 1 ≤ c → c ≤ 8 → z_Sc A c ∧ z_Sn A c := fun c h1 h8 => ⟨W_Sc h h1 h8, C_Sn h.1 h1 h8⟩
theorem V_feed {n : Nat} {A : w_A} (h : z_VW n A) (hn : n + 2048 < 2147483648) (x : Int32) (a b c d : Int64) (N : Int32) : z_VW (n + 2048) (fn_cFeed A x a b c d N).1 ∧ vN (fn_cFeed A x a b c d N).1 5 0 = vN A 5 0 := by
  unfold fn_cFeed
  split
  · exact ⟨V_mono (by omega) h, rfl⟩
  · rename_i k hk
    have hk8 := (pk_some (by omega) hk).1
    split
    · split
      · rename_i hN
        have hn32 : N.toNatClampNeg ≤ 32 := by
          have := Int32.le_iff_toInt_le.mp hN.2
          rw [show (32 : Int32).toInt = 32 from rfl] at this
          show N.toInt.toNat ≤ 32
          omega
        obtain ⟨g1, g2, g3, g4, g5⟩ := feed_W (c := k + 1) (by omega) (by omega) (fn_byte a b c d) (byte_nb a b c d) N.toNatClampNeg N.toNatClampNeg n A 0 h.1 h.2.2 (by omega)
        exact ⟨⟨W_mono (by omega) g1, ZR_of h.2.1 g3 g4, g2⟩, g5⟩
      · exact ⟨V_mono (by omega) h, rfl⟩
    · exact ⟨V_mono (by omega) h, rfl⟩
/-- what a step leaves -/
def z_st1c (L n : Nat) (xs : Nat → Int32) (A : w_A) (σ' : z_St) : Prop := ∃ A', z_JJ L (n + 2000000) xs A' σ' ∧ vN A' 5 0 ≤ vN A 5 0 + 2000
def lg (a b : Int32) : Int64 := (a.toInt64 <<< ((32 : Int32).toInt64 &&& 63)) ||| (b.toInt64 &&& 4294967295)
theorem ct_fz {L : Nat} {A B : w_A} {σ : z_St} (h : z_ct L A σ) (e : vN B 0 0 = vN A 0 0 ∧ vN B 1 0 = vN A 1 0) : z_ct L B σ := by
  unfold z_ct at h ⊢
  rw [e.1, e.2]
  exact h
theorem fr_cnt {A B : w_A} (f : z_fr A B) : vN B 0 0 = vN A 0 0 ∧ vN B 1 0 = vN A 1 0 ∧ vN B 5 0 = vN A 5 0 := ⟨f.2.2.2.1 _ _ (.inl (by decide)), f.2.2.2.1 _ _ (.inl (by decide)), f.2.2.2.1 _ _ (.inl (by decide))⟩
theorem c3_sign (A : w_A) (c : Int32) : vN (fn_cSign A c).1 0 0 = vN A 0 0 ∧ vN (fn_cSign A c).1 1 0 = vN A 1 0 ∧ vN (fn_cSign A c).1 5 0 = vN A 5 0 := by
  unfold fn_cSign
  split
  · exact ⟨rfl, rfl, rfl⟩
  split
  · exact ⟨rfl, rfl, rfl⟩
  split
  · exact ⟨rfl, rfl, rfl⟩
  · exact ⟨rfl, rfl, rfl⟩
theorem c3_own (A : w_A) : vN (fn_cOwn A).1 0 0 = vN A 0 0 ∧ vN (fn_cOwn A).1 1 0 = vN A 1 0 ∧ vN (fn_cOwn A).1 5 0 = vN A 5 0 := by
  unfold fn_cOwn
  split
  · exact ⟨rfl, rfl, rfl⟩
  split
  · exact ⟨rfl, rfl, rfl⟩
  · exact ⟨rfl, rfl, rfl⟩
theorem c3_start (A : w_A) (x : Int32) : vN (fn_cStart A x).1 0 0 = vN A 0 0 ∧ vN (fn_cStart A x).1 1 0 = vN A 1 0 ∧ vN (fn_cStart A x).1 5 0 = vN A 5 0 := by
  unfold fn_cStart
  split
  · exact ⟨rfl, rfl, rfl⟩
  · split
    · split
      · exact ⟨rfl, rfl, rfl⟩
      · exact fr_cnt (fr_begin A _ _)
    · exact ⟨rfl, rfl, rfl⟩
theorem c3_accept (A : w_A) : vN (fn_cAccept A).1 0 0 = vN A 0 0 ∧ vN (fn_cAccept A).1 1 0 = vN A 1 0 ∧ vN (fn_cAccept A).1 5 0 = vN A 5 0 := by
  unfold fn_cAccept
  split
  · exact ⟨rfl, rfl, rfl⟩
  · exact fr_cnt (fr_fresh A _ 0 2 0)
theorem c3_gone (A : w_A) (x : Int32) : vN (fn_cGone A x).1 0 0 = vN A 0 0 ∧ vN (fn_cGone A x).1 1 0 = vN A 1 0 ∧ vN (fn_cGone A x).1 5 0 = vN A 5 0 := by
  unfold fn_cGone
  split
  · exact ⟨rfl, rfl, rfl⟩
  · split
    · exact ⟨rfl, rfl, rfl⟩
    · exact fr_cnt (fr_end A _)
theorem c3_conn (A : w_A) (x on : Int32) : vN (fn_cConn A x on).1 0 0 = vN A 0 0 ∧ vN (fn_cConn A x on).1 1 0 = vN A 1 0 ∧ vN (fn_cConn A x on).1 5 0 = vN A 5 0 := by
  unfold fn_cConn
  split
  · exact ⟨rfl, rfl, rfl⟩
  · split
    · exact ⟨rfl, rfl, rfl⟩
    split
    · exact ⟨rfl, rfl, rfl⟩
    split
    · exact fr_cnt (fr_end A _)
    · dsimp only
      have f1 : ∀ c p, z_fr A (fn_sendOpening (sI A 12 c 2) p) := fun c p => fr_trans (fr_I A (by decide) (by decide) (by decide) _ _) (fr_opening _ p)
      split
      · exact fr_cnt (fr_trans (f1 _ _) (fr_choose _ _))
      · exact fr_cnt (fr_trans (f1 _ _) (fr_enter _ _ 2))
theorem c3_stop (A : w_A) (x y : Int32) : vN (fn_cStop A x y).1 0 0 = vN A 0 0 ∧ vN (fn_cStop A x y).1 1 0 = vN A 1 0 ∧ vN (fn_cStop A x y).1 5 0 = vN A 5 0 := by
  unfold fn_cStop
  split
  · exact ⟨rfl, rfl, rfl⟩
  · split
    · split
      · exact fr_cnt (fr_trans (fr_sending A _ y) (fr_enter _ _ 7))
      · exact ⟨rfl, rfl, rfl⟩
    · exact ⟨rfl, rfl, rfl⟩
theorem c3_take (A : w_A) (x : Int32) : vN (fn_cTake A x).1 0 0 = vN A 0 0 ∧ vN (fn_cTake A x).1 1 0 = vN A 1 0 ∧ vN (fn_cTake A x).1 5 0 = vN A 5 0 := by
  unfold fn_cTake
  split
  · exact ⟨rfl, rfl, rfl⟩
  · split
    · exact ⟨rfl, rfl, rfl⟩
    · exact ⟨rfl, rfl, rfl⟩
theorem c3_ask (A : w_A) (x : Int32) : vN (fn_cAsk A x).1 0 0 = vN A 0 0 ∧ vN (fn_cAsk A x).1 1 0 = vN A 1 0 ∧ vN (fn_cAsk A x).1 5 0 = vN A 5 0 := by
  unfold fn_cAsk
  split
  · exact ⟨rfl, rfl, rfl⟩
  split
  · exact ⟨rfl, rfl, rfl⟩
  · split
    · exact ⟨rfl, rfl, rfl⟩
    · exact fr_cnt (A := fn_qnew A _) (fr_put (fn_qnew A _) _ _)
theorem c3_kept (A : w_A) : vN (fn_cKept A).1 0 0 = vN A 0 0 ∧ vN (fn_cKept A).1 1 0 = vN A 1 0 ∧ vN (fn_cKept A).1 5 0 = vN A 5 0 := by
  exact ⟨stl_N (by decide) (by decide) (by decide) 0 _ _, stl_N (by decide) (by decide) (by decide) 0 _ _, stl_N (by decide) (by decide) (by decide) 0 _ _⟩
theorem now_account (A : w_A) (y b : Int64) : vN (fn_cAccount A y b).1 5 0 = vN A 5 0 := by
  unfold fn_cAccount
  split
  · rfl
  split
  · rfl
  split
  · rfl
  · rfl
theorem now_peer (A : w_A) (x : Int32) : vN (fn_cPeer A x).1 5 0 = vN A 5 0 := by
  unfold fn_cPeer
  split
  · rfl
  split
  · rfl
  split
  · rfl
  · rfl
theorem cnt_feed {n : Nat} {A : w_A} (h : z_VW n A) (hn : n + 2048 < 2147483648) (x : Int32) (a b c d : Int64) (N : Int32) : vN (fn_cFeed A x a b c d N).1 0 0 = vN A 0 0 ∧ vN (fn_cFeed A x a b c d N).1 1 0 = vN A 1 0 := by
  unfold fn_cFeed
  split
  · exact ⟨rfl, rfl⟩
  · rename_i k hk
    have hk8 := (pk_some (by omega) hk).1
    split
    · split
      · rename_i hN
        have hn32 : N.toNatClampNeg ≤ 32 := by
          have := Int32.le_iff_toInt_le.mp hN.2
          rw [show (32 : Int32).toInt = 32 from rfl] at this
          show N.toInt.toNat ≤ 32
          omega
        obtain ⟨g1, g2, g3, g4, g5⟩ := feed_W (c := k + 1) (by omega) (by omega) (fn_byte a b c d) (byte_nb a b c d) N.toNatClampNeg N.toNatClampNeg n A 0 h.1 h.2.2 (by omega)
        exact ⟨g3.2.2, g4.1⟩
      · exact ⟨rfl, rfl⟩
    · exact ⟨rfl, rfl⟩
theorem cnt_tick {n : Nat} {A : w_A} (h : z_VW n A) (hN : vN A 5 0 + 2000 ≤ 200000) (hn : n + 1024000 < 2147483648) (x : Int32) : vN (fn_cTick A x).1 0 0 = vN A 0 0 ∧ vN (fn_cTick A x).1 1 0 = vN A 1 0 := by
  unfold fn_cTick
  split
  · exact ⟨rfl, rfl⟩
  · rename_i hc
    obtain ⟨m, rfl, m1, m2, m3⟩ := tk_in (N := vN A 5 0) (by omega) (fun g => hc (.inl g)) (Classical.not_not.mp fun g => hc (.inr g))
    rw [m3]
    exact ⟨(fz_tick _ _ _ (fz_refl A)).2.2, (fa_tick _ n _ _ h.1 (by omega) (by omega)).1⟩
theorem cnt_sign (A : w_A) (c : Int32) : vN (fn_cSign A c).1 0 0 = vN A 0 0 ∧ vN (fn_cSign A c).1 1 0 = vN A 1 0 := ⟨(c3_sign A c).1, (c3_sign A c).2.1⟩
theorem cnt_own (A : w_A) : vN (fn_cOwn A).1 0 0 = vN A 0 0 ∧ vN (fn_cOwn A).1 1 0 = vN A 1 0 := ⟨(c3_own A).1, (c3_own A).2.1⟩
theorem cnt_accept (A : w_A) : vN (fn_cAccept A).1 0 0 = vN A 0 0 ∧ vN (fn_cAccept A).1 1 0 = vN A 1 0 := ⟨(c3_accept A).1, (c3_accept A).2.1⟩
theorem cnt_take (A : w_A) (x : Int32) : vN (fn_cTake A x).1 0 0 = vN A 0 0 ∧ vN (fn_cTake A x).1 1 0 = vN A 1 0 := ⟨(c3_take A x).1, (c3_take A x).2.1⟩
theorem cnt_kept (A : w_A) : vN (fn_cKept A).1 0 0 = vN A 0 0 ∧ vN (fn_cKept A).1 1 0 = vN A 1 0 := ⟨(c3_kept A).1, (c3_kept A).2.1⟩
theorem cnt_start (A : w_A) (x : Int32) : vN (fn_cStart A x).1 0 0 = vN A 0 0 ∧ vN (fn_cStart A x).1 1 0 = vN A 1 0 := ⟨(c3_start A x).1, (c3_start A x).2.1⟩
theorem cnt_conn (A : w_A) (x on : Int32) : vN (fn_cConn A x on).1 0 0 = vN A 0 0 ∧ vN (fn_cConn A x on).1 1 0 = vN A 1 0 := ⟨(c3_conn A x on).1, (c3_conn A x on).2.1⟩
theorem cnt_gone (A : w_A) (x : Int32) : vN (fn_cGone A x).1 0 0 = vN A 0 0 ∧ vN (fn_cGone A x).1 1 0 = vN A 1 0 := ⟨(c3_gone A x).1, (c3_gone A x).2.1⟩
theorem cnt_stop (A : w_A) (x y : Int32) : vN (fn_cStop A x y).1 0 0 = vN A 0 0 ∧ vN (fn_cStop A x y).1 1 0 = vN A 1 0 := ⟨(c3_stop A x y).1, (c3_stop A x y).2.1⟩
theorem cnt_ask (A : w_A) (x : Int32) : vN (fn_cAsk A x).1 0 0 = vN A 0 0 ∧ vN (fn_cAsk A x).1 1 0 = vN A 1 0 := ⟨(c3_ask A x).1, (c3_ask A x).2.1⟩
theorem now_sign (A : w_A) (c : Int32) : vN (fn_cSign A c).1 5 0 = vN A 5 0 := (c3_sign A c).2.2
theorem now_own (A : w_A)  : vN (fn_cOwn A).1 5 0 = vN A 5 0 := (c3_own A).2.2
theorem now_start (A : w_A) (x : Int32) : vN (fn_cStart A x).1 5 0 = vN A 5 0 := (c3_start A x).2.2
theorem now_accept (A : w_A)  : vN (fn_cAccept A).1 5 0 = vN A 5 0 := (c3_accept A).2.2
theorem now_conn (A : w_A) (x on : Int32) : vN (fn_cConn A x on).1 5 0 = vN A 5 0 := (c3_conn A x on).2.2
theorem now_gone (A : w_A) (x : Int32) : vN (fn_cGone A x).1 5 0 = vN A 5 0 := (c3_gone A x).2.2
theorem now_stop (A : w_A) (x y : Int32) : vN (fn_cStop A x y).1 5 0 = vN A 5 0 := (c3_stop A x y).2.2
theorem now_take (A : w_A) (x : Int32) : vN (fn_cTake A x).1 5 0 = vN A 5 0 := (c3_take A x).2.2
theorem now_ask (A : w_A) (x : Int32) : vN (fn_cAsk A x).1 5 0 = vN A 5 0 := (c3_ask A x).2.2
theorem now_kept (A : w_A)  : vN (fn_cKept A).1 5 0 = vN A 5 0 := (c3_kept A).2.2
