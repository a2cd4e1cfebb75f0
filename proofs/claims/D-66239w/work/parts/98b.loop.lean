/-! PART 98b (src 98b.loop.src): the law's loop -/
set_option maxHeartbeats 1600000
set_option maxRecDepth 100000
theorem ar_lt (n c r B : Nat) (h : n + c * (r + 1) < B) : n + c < B ∧ n + c + c * r < B := by
  have e : c * (r + 1) = c * r + c := Nat.mul_succ c r
  omega
theorem ar_le (n c r B : Nat) (h : n + c * (r + 1) ≤ B) : n + c ≤ B ∧ ∀ m, m ≤ n + c → m + c * r ≤ B := by
  have e : c * (r + 1) = c * r + c := Nat.mul_succ c r
  exact ⟨by omega, fun m hm => by omega⟩
def z_bd (r n m : Nat) : Prop := n + 2000000 * r < 2147483648 ∧ m + 2000 * r ≤ 200000
theorem bd_s {r n m : Nat} (h : z_bd (r + 1) n m) : z_bd 1 n m ∧ ∀ m', m' ≤ m + 2000 → z_bd r (n + 2000000) m' :=
  ⟨⟨(ar_lt n 2000000 r _ h.1).1, (ar_le m 2000 r _ h.2).1⟩, fun m' hm => ⟨(ar_lt n 2000000 r _ h.1).2, (ar_le m 2000 r _ h.2).2 m' hm⟩⟩
theorem lt_11 {L i : Nat} (h31 : L ≤ 704) (hi : i ≤ L) : (Int32.ofNat L - 11 < Int32.ofNat i) ↔ L < i + 11 := by
  rw [Int32.lt_iff_toInt_lt, Int32.toInt_sub, io_toInt (by omega), io_toInt (by omega), show (11 : Int32).toInt = 11 from rfl, Int.bmod_eq_of_le (by omega) (by omega)]
  omega
theorem law_fin {L n i : Nat} {xs : Nat → Int32} {A : w_A} {σ : z_St} (hJ : z_JJ L n xs A σ) : (al σ).length ≤ 600000 ∧ z_sl (al σ) ≤ 7302250 := by
  obtain ⟨-, -, -, -, -, c5, c6⟩ := hJ.2.2.2.1
  have hb := hJ.2.2.1.1.1.1.1.1
  exact ⟨by omega, by omega⟩
theorem lw_len {os : List z_Op} {t : z_Tm} {C : z_O} {st : List z_V} {σ : z_St} {j : z_J} {Q : z_St → Option z_V → Prop} {i : Nat} (k : wp (z_run os t C (z_LS i) (.inl (Int32.ofNat (cn σ 14)) :: st) σ j) Q) : wp (z_run (zo_ldA 0 :: zo_slen :: os) t C (z_LS i) st σ j) Q := by
  show wp (gd (((14, 0) : z_Ad) = (14, 0)) (z_run os t C (z_LS i) (.inl (Int32.ofNat (cn σ 14)) :: st) σ j)) Q
  exact wp_gd rfl k
theorem lw_b1 {t : z_Tm} {C : z_O} {σ : z_St} {j : z_J} {Q : z_St → Option z_V → Prop} {i : Nat} (k : wp (z_run [] t C (z_LS i) (.inl (Int32.ofNat (cn σ 14) - 11) :: .inl (Int32.ofNat i) :: []) σ j) Q) : wp (z_run [zo_ldI 3, zo_ldA 0, zo_slen, zo_cI (11), zo_ii ((· - ·))] t C (z_LS i) [] σ j) Q :=
  lw_1 (fun _ => rfl) (lw_len (lw_1 (fun _ => rfl) (lw_1 (fun _ => rfl) k)))
theorem law_b64 {ls : z_L} {σ : z_St} {Q : z_St → Option z_V → Prop} (k : Q σ (some (.inl 1))) : wp (E xP248 (zD 20) 64 ls [] σ) Q := by
  refine lw_eq ?_
  show wp (z_run xB248_64.1 xB248_64.2 _ _ _ _ _) _
  unfold xB248_64
  dsimp only
  refine lw_1 (fun _ => rfl) ?_
  show wp (gd ((1 : Int32) = 0 ∨ (1 : Int32) = 1) (some (σ, some (.inl 1)))) _
  exact wp_gd (by decide) (wp_ret k)
theorem law_b1 {L i : Nat} {σ : z_St} (h31 : L ≤ 704) (hi : i ≤ L) (hc : cn σ 14 = L) {Q : z_St → Option z_V → Prop} (k1 : L < i + 11 → ∀ ls, wp (E xP248 (zD 20) 64 ls [] σ) Q) (k2 : ¬ L < i + 11 → wp (E xP248 (zD 20) 2 (z_LS i) [] σ) Q) : wp (E xP248 (zD 20) 1 (z_LS i) [] σ) Q := by
  refine lw_eq ?_
  show wp (z_run xB248_1.1 xB248_1.2 _ _ _ _ _) _
  unfold xB248_1
  dsimp only
  refine lw_b1 (lw_icl (fun g => ?_) (fun g => ?_))
  · rw [hc] at g
    exact k1 ((lt_11 h31 hi).mp g) _
  · rw [hc] at g
    exact k2 (fun q => g ((lt_11 h31 hi).mpr q))
theorem law_b63 {i : Nat} {σ' : z_St} {Q : z_St → Option z_V → Prop} (k : wp (E xP248 (zD 20) 1 (z_LS (i + 11)) [] σ') Q) : wp (E xP248 (zD 20) 63 (z_LS i) [] σ') Q := by
  refine lw_eq ?_
  show wp (z_run xB248_63.1 xB248_63.2 _ _ _ _ _) _
  unfold xB248_63
  dsimp only
  refine lw_1 (fun _ => rfl) (lw_goto ?_)
  show wp (E xP248 (zD 20) 1 [some (.inr (.inr (some (14, 0)))), some (.inr (.inr (some (0, 0)))), some (.inr (.inr (some (8, 0)))), some (.inl (Int32.ofNat i + 11))] [] σ') _
  rw [io_add_l]
  exact k
theorem law_loop {L : Nat} {xs : Nat → Int32} (h31 : L ≤ 704) : ∀ (r i n : Nat) (A : w_A) (σ : z_St), i ≤ L → L < i + 11 * (r + 1) → z_JJ L n xs A σ → z_bd r n (vN A 5 0) → wp (E xP248 (zD 20) 1 (z_LS i) [] σ) (fun σ v => v = some (.inl 1) ∧ (al σ).length ≤ 600000 ∧ z_sl (al σ) ≤ 7302250) := by
  intro r
  induction r with
  | zero =>
    intro i n A σ hi hr hJ hB
    exact law_b1 h31 hi hJ.2.2.2.1.1 (fun g ls => law_b64 ⟨rfl, law_fin (i := i) hJ⟩) (fun g => absurd hr g)
  | succ r ih =>
    intro i n A σ hi hr hJ hB
    refine law_b1 h31 hi hJ.2.2.2.1.1 (fun g ls => law_b64 ⟨rfl, law_fin (i := i) hJ⟩) (fun g => ?_)
    obtain ⟨b1, b2⟩ := bd_s hB
    refine law_step h31 (by omega) b1.1 hJ b1.2 fun σ' h' => law_b63 ?_
    obtain ⟨A', hJ', hN'⟩ := h'
    exact ih (i + 11) (n + 2000000) A' σ' (by omega) (by omega) hJ' (b2 _ hN')
