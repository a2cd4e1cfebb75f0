/-! PART 93b (src 93b.xtick.src): the component's clock goes on -/
set_option maxHeartbeats 800000
set_option maxRecDepth 20000
theorem tk_in {x : Int32} {N : Nat} (hN : N ≤ 200000) (h0 : ¬ x < Int32.ofNat N) (h1 : x - Int32.ofNat N ≤ 2000) : ∃ m, x = Int32.ofNat m ∧ N ≤ m ∧ m ≤ N + 2000 ∧ x.toNatClampNeg = m := by
  have g0 : (Int32.ofNat N).toInt ≤ x.toInt := Int32.le_iff_toInt_le.mp (Int32.not_lt.mp h0)
  rw [io_toInt (by omega)] at g0
  have g2 := Int32.toInt_lt x
  have g1 := Int32.le_iff_toInt_le.mp h1
  rw [Int32.toInt_sub, io_toInt (by omega), Int.bmod_eq_of_le (by omega) (by omega), show (2000 : Int32).toInt = 2000 from rfl] at g1
  refine ⟨x.toInt.toNat, ?_, by omega, by omega, rfl⟩
  apply Int32.toInt_inj.mp
  rw [io_toInt (by omega)]
  omega
def fn_cTick (A : w_A) (x : Int32) : w_A × Int32 := if x < Int32.ofNat (vN A 5 0) ∨ ¬ x - Int32.ofNat (vN A 5 0) ≤ 2000 then (A, -2)
  else ((fn_tick (x.toNatClampNeg - vN A 5 0) A 0).1, Int32.ofNat (fn_tick (x.toNatClampNeg - vN A 5 0) A 0).2)
theorem sec_d (A : w_A) : fn_sec A = ((fn_sts (vN (fn_pts (vN (fn_nx A) 0 0) 0 (fn_nx A) 0).1 2 0) 0 (fn_pts (vN (fn_nx A) 0 0) 0 (fn_nx A) 0).1 0).1, (fn_pts (vN (fn_nx A) 0 0) 0 (fn_nx A) 0).2 + (fn_sts (vN (fn_pts (vN (fn_nx A) 0 0) 0 (fn_nx A) 0).1 2 0) 0 (fn_pts (vN (fn_nx A) 0 0) 0 (fn_nx A) 0).1 0).2) := by
  rw [fn_sec_eq, sts_d]
theorem xl_tick {T : z_St} {d : Nat} {Q : z_St → Option z_V → Prop} : ∀ (f n dn m : Nat) (A : w_A) (σ : z_St), vN A 5 0 + f = m → m ≤ 200000 → w_X T σ A → z_W n A → n + 512 * f < 2147483648 → (∀ σ, w_X T σ (fn_tick f A dn).1 → Q σ (some (.inl (Int32.ofNat (fn_tick f A dn).2)))) →
    wp (E xP70 (zD (d + 11)) 4 [some (.inr (.inr (some (0, 0)))), some (.inl (Int32.ofNat m)), some (.inl (Int32.ofNat dn))] [] σ) Q
  | 0, n, dn, m, A, σ, hf, hm, hX, hW, hn, k => by
    refine wp_eq (e70_4 ..) (wp_if (fun h => ?_) (fun h => ?_)) <;> rw [rx_NOW hX, io_le (by omega) (by omega)] at h
    · exact wp_eq (e70_6 ..) (wp_ret (k σ hX))
    · omega
  | f + 1, n, dn, m, A, σ, hf, hm, hX, hW, hn, k => by
    refine wp_eq (e70_4 ..) (wp_if (fun h => ?_) (fun h => ?_)) <;> rw [rx_NOW hX, io_le (by omega) (by omega)] at h
    · omega
    rw [tick_s] at k
    obtain ⟨a1, a2, a3, a4⟩ := sec_pts hW (by omega) (by omega)
    obtain ⟨w1, w2, w3⟩ := W_sec hW (by omega) (by omega)
    have hsd := sec_d A
    refine wp_eq (e70_5 ..) ?_
    rw [rx_NOW hX, io_add_l]
    refine wp_swX (A := fn_nx A) (wx_NOW hX _) fun σ hX => wp_cr (xc_peersAt (d := d) hX (C_nx hW.1 (by omega)) (tbd_nx hW.2.1) (by omega) fun σ hX => ⟨_, rfl, wp_gd (show 2 ≤ 8 by decide) ?_⟩)
    generalize fn_pts (vN (fn_nx A) 0 0) 0 (fn_nx A) 0 = r at *
    have ha : ∀ q, q < vN r.1 2 0 → ¬ vN r.1 13 q = 0 := fun q hq => by
      have := (a3.1 q hq).1
      have this : 1 ≤ vN r.1 13 q := this
      omega
    refine wp_cr (xc_sessionsAt (d := d + 8) hX a1.1.1.1.2.2.1 ha a3.2.2.2.2.2.2.2.1 fun σ hX => ⟨_, rfl, wp_asI0 (wp_asI0 ?_)⟩)
    rw [io_add, io_add]
    have e1 : (fn_sec A).1 = (fn_sts (vN r.1 2 0) 0 r.1 0).1 := by rw [hsd]
    have e2 : r.2 + (fn_sts (vN r.1 2 0) 0 r.1 0).2 = (fn_sec A).2 := by rw [hsd]
    rw [e2]
    rw [← e1] at hX
    exact xl_tick f (n + 512) _ m _ σ (by rw [w2]; omega) hm hX w1 (by omega) k
theorem xc_tick {T σ : z_St} {A : w_A} (hX : w_X T σ A) {n : Nat} (hW : z_W n A) (hN : vN A 5 0 + 2000 ≤ 200000) (hn : n + 1024000 < 2147483648) {d : Nat} {x : Int32} {Q : z_St → Option z_V → Prop} (k : ∀ σ v, w_X T σ (fn_cTick A x).1 → v = some (.inl (fn_cTick A x).2) → Q σ v) : wp (zD (d + 12) 70 [.inr (.inr (some (0, 0))), .inl x] σ) Q := by
  unfold fn_cTick at k
  refine wp_eq (c70 ..) (wp_eq (e70_0 ..) (wp_if (fun h => ?_) (fun h0 => ?_)))
  · rw [rx_NOW hX] at h
    rw [if_pos (.inl h)] at k
    exact wp_eq (e70_2 ..) (wp_ret (k _ _ hX rfl))
  rw [rx_NOW hX] at h0
  refine wp_eq (e70_1 ..) (wp_if (fun h1 => ?_) (fun h1 => ?_)) <;> rw [rx_NOW hX] at h1
  rotate_left
  · rw [if_pos (.inr h1)] at k
    exact wp_eq (e70_2 ..) (wp_ret (k _ _ hX rfl))
  rw [if_neg (fun g => g.elim h0 (fun g => g h1))] at k
  obtain ⟨m, rfl, m1, m2, m3⟩ := tk_in (by omega) h0 h1
  rw [m3] at k
  exact wp_eq (e70_3 ..) (xl_tick (m - vN A 5 0) n 0 m A σ (by omega) (by omega) hX hW (by omega) fun σ hX => k σ _ hX rfl)
