/-! PART 88f (src 88f.mkept.src): the twin's kept answers -/
set_option maxHeartbeats 800000
theorem St_ext {σ τ : z_St} (h1 : cn σ = cn τ) (h2 : al σ = al τ) (h3 : ∀ a b n, gI σ a b n = gI τ a b n) (h4 : ∀ a b n, gJ σ a b n = gJ τ a b n) (h5 : ∀ a b n, gR σ a b n = gR τ a b n) : σ = τ := by
  obtain ⟨a1, a2, a3, a4, a5⟩ := σ
  obtain ⟨b1, b2, b3, b4, b5⟩ := τ
  have e1 : a1 = b1 := h1
  have e2 : a2 = b2 := h2
  have e3 : a3 = b3 := funext fun a => funext fun b => funext fun n => h3 a b n
  have e4 : a4 = b4 := funext fun a => funext fun b => funext fun n => h4 a b n
  have e5 : a5 = b5 := funext fun a => funext fun b => funext fun n => h5 a b n
  subst e1 e2 e3 e4 e5
  rfl
/-- only the kept answers' rows change -/
def z_5 (a b n : Nat) : Prop := (b = 0 ∧ (a = 59058193 ∨ a = 59769904 ∨ a = 60860721 ∨ a = 61867056 ∨ a = 62915632)) ∨ (a = 8 ∧ b = 59 ∧ n = 0)
def z_o5 (σ σ' : z_St) : Prop := cn σ' = cn σ ∧ al σ' = al σ ∧ (∀ a b n, gJ σ' a b n = gJ σ a b n) ∧ (∀ a b n, gR σ' a b n = gR σ a b n) ∧ ∀ a b n, ¬ z_5 a b n → gI σ' a b n = gI σ a b n
theorem o5_rf (σ : z_St) : z_o5 σ σ := ⟨rfl, rfl, fun _ _ _ => rfl, fun _ _ _ => rfl, fun _ _ _ _ => rfl⟩
theorem o5_tr {σ1 σ2 σ3 : z_St} (h : z_o5 σ1 σ2) (g : z_o5 σ2 σ3) : z_o5 σ1 σ3 := ⟨g.1.trans h.1, g.2.1.trans h.2.1, fun a b n => (g.2.2.1 a b n).trans (h.2.2.1 a b n), fun a b n => (g.2.2.2.1 a b n).trans (h.2.2.2.1 a b n), fun a b n e => (g.2.2.2.2 a b n e).trans (h.2.2.2.2 a b n e)⟩
theorem o5_wI (σ : z_St) {a n : Nat} (h : a = 59058193 ∨ a = 59769904 ∨ a = 60860721 ∨ a = 61867056 ∨ a = 62915632) (x : Int32) : z_o5 σ (wI σ a 0 n x) := ⟨rfl, rfl, fun _ _ _ => rfl, fun _ _ _ => rfl, fun a' b' n' e => by rw [gI_wI, if_neg (fun q => e (.inl ⟨q.2.1, by rw [q.1]; exact h⟩))]⟩
theorem o5_w8 (σ : z_St) (x : Int32) : z_o5 σ (wI σ 8 59 0 x) := ⟨rfl, rfl, fun _ _ _ => rfl, fun _ _ _ => rfl, fun a b n e => by rw [gI_wI, if_neg (fun q => e (.inr q))]⟩
theorem o5_rI (σ : z_St) {a : Nat} (h : a = 59058193 ∨ a = 59769904 ∨ a = 60860721 ∨ a = 61867056 ∨ a = 62915632) (f : Nat → Int32) : z_o5 σ (rI σ a 0 f) := ⟨rfl, rfl, fun _ _ _ => rfl, fun _ _ _ => rfl, fun a' b' n' e => by rw [hI_rI, if_neg (fun q => e (.inl ⟨q.2, by rw [q.1]; exact h⟩))]⟩
/-- row s of the memory is row k -/
def zk (σ : z_St) (A : w_A) (s k : Nat) : Prop := gI σ 61867056 0 s = vI A 18 k ∧ gI σ 62915632 0 s = Int32.ofNat (vN A 15 k + 240) ∧ m_nm σ 60860721 (41 * s) (vL A 11 k) ∧ gI σ 59769904 0 s = Int32.ofNat (vL A 10 k).length ∧ ∀ j, (h : j < (vL A 10 k).length) → ¬ (1 ≤ j ∧ j ≤ 3) → gI σ 59058193 0 (320 * s + j) = (vL A 10 k)[j]
def zk_ok (A : w_A) (k : Nat) : Prop := z_nm (vL A 11 k) ∧ (vL A 10 k).length ≤ 300 ∧ z_by (vL A 10 k)
theorem ml_row {σ : z_St} {d j : Nat} (hj : j + 1 < 33) (hp : gR σ 8 60 0 = some (59058193, 0)) {Q : z_St → Option z_V → Prop} (k : wp (E xP151 (zD (d + 1)) 5 [some (.inr (.inr (some (8, 0)))), some (.inl (Int32.ofNat j)), none] [] (rI σ 59058193 0 (fn_cp (gI σ 59058193 0) (320 * (j + 1)) (320 * j) (gI σ 59058193 0) 320))) Q) : ∀ (m n : Nat), n + m = 320 →
    wp (E xP151 (zD (d + 1)) 3 [some (.inr (.inr (some (8, 0)))), some (.inl (Int32.ofNat j)), some (.inl (Int32.ofNat n))] [] (rI σ 59058193 0 (fn_cp (gI σ 59058193 0) (320 * (j + 1)) (320 * j) (gI σ 59058193 0) n))) Q
  | 0, n, hn => by
    have : n = 320 := by omega
    subst this
    refine wp_eq (e151_3 ..) (wp_if (fun _ => k) (fun h => absurd (by decide) h))
  | m + 1, n, hn => by
    have er : gI (rI σ 59058193 0 (fn_cp (gI σ 59058193 0) (320 * (j + 1)) (320 * j) (gI σ 59058193 0) n)) 59058193 0 (320 * (j + 1) + n) = gI σ 59058193 0 (320 * (j + 1) + n) := by
      rw [hI_rI, if_pos ⟨rfl, rfl⟩]
      unfold fn_cp
      rw [if_neg (by omega)]
    have e1 : (320 : Int32) * Int32.ofNat j + 320 + Int32.ofNat n = Int32.ofNat (320 * (j + 1) + n) := by
      rw [show (320 : Int32) * Int32.ofNat j = Int32.ofNat (320 * j) from io_mul 320 j, io_add_l, io_add]
      rfl
    have e2 : (320 : Int32) * Int32.ofNat j + Int32.ofNat n = Int32.ofNat (320 * j + n) := by
      rw [show (320 : Int32) * Int32.ofNat j = Int32.ofNat (320 * j) from io_mul 320 j, io_add]
    refine wp_eq (e151_3 ..) (wp_if (fun h => ?_) (fun _ => ?_))
    · rw [show (320 : Int32) = Int32.ofNat 320 from rfl, io_le (by omega) (by omega)] at h
      omega
    refine wp_eq (e151_4 ..) (wp_ar (k := 320 * (j + 1) + n) hp aty_59058193 alen_59058193 e1 (by omega) (by decide) ?_)
    refine (wp_ar (k := 320 * j + n) hp aty_59058193 alen_59058193 e2 (by omega) (by decide) ?_)
    simp only [e1, e2]
    rw [io_nat (by omega), io_nat (by omega), nb_un, io_add_l]
    rw [er, wI_rI, cp_s]
    exact wp_sw (ml_row hj hp k m (n + 1) (by omega))
theorem zk_mv {σ : z_St} {A : w_A} {j : Nat} (hk : zk σ A (j + 1) (j + 1)) (ho : zk_ok A (j + 1)) (hI : Int32) : zk (wI (wI (wI (rI (rI σ 59058193 0 (fn_cp (gI σ 59058193 0) (320 * (j + 1)) (320 * j) (gI σ 59058193 0) 320)) 60860721 0 (fn_cp (gI σ 60860721 0) (41 * (j + 1)) (41 * j) (gI σ 60860721 0) 41)) 59769904 0 j (gI σ 59769904 0 (j + 1))) 61867056 0 j (gI σ 61867056 0 (j + 1))) 62915632 0 j (gI σ 62915632 0 (j + 1))) A j (j + 1) := by
  obtain ⟨h1, h2, h3, h4, h5⟩ := hk
  obtain ⟨o1, o2, o3⟩ := ho
  obtain ⟨c1, c2, c3⟩ := cp_nm (h := gI σ 60860721 0) (y := 41 * j) o1 h3.1 h3.2
  refine ⟨?_, ?_, ⟨?_, fun i hi => ?_⟩, ?_, fun i hi hn => ?_⟩
  · rw [gI_wI, if_neg (fun q => absurd q.1 (by decide)), gI_wI, if_pos ⟨rfl, rfl, rfl⟩]; exact h1
  · rw [gI_wI, if_pos ⟨rfl, rfl, rfl⟩]; exact h2
  · rw [gI_wI, if_neg (fun q => absurd q.1 (by decide)), gI_wI, if_neg (fun q => absurd q.1 (by decide)), gI_wI, if_neg (fun q => absurd q.1 (by decide)), hI_rI, if_pos ⟨rfl, rfl⟩]; exact c1
  · rw [gI_wI, if_neg (fun q => absurd q.1 (by decide)), gI_wI, if_neg (fun q => absurd q.1 (by decide)), gI_wI, if_neg (fun q => absurd q.1 (by decide)), hI_rI, if_pos ⟨rfl, rfl⟩]; exact c2 i hi
  · rw [gI_wI, if_neg (fun q => absurd q.1 (by decide)), gI_wI, if_neg (fun q => absurd q.1 (by decide)), gI_wI, if_pos ⟨rfl, rfl, rfl⟩]; exact h4
  · rw [gI_wI, if_neg (fun q => absurd q.1 (by decide)), gI_wI, if_neg (fun q => absurd q.1 (by decide)), gI_wI, if_neg (fun q => absurd q.1 (by decide)), hI_rI, if_neg (fun q => absurd q.1 (by decide)), hI_rI, if_pos ⟨rfl, rfl⟩]
    unfold fn_cp
    rw [if_pos (by omega), show 320 * (j + 1) + (320 * j + i - 320 * j) = 320 * (j + 1) + i by omega, h5 i hi hn]
    exact o3 _ (List.getElem_mem hi)
theorem zk_st {σ : z_St} {A : w_A} {j s k : Nat} (hk : zk σ A s k) (ho : zk_ok A k) (hs : ¬ s = j) (f1 f2 : Nat → Int32) (x y z : Int32) (g1 : ∀ i, ¬ (320 * j ≤ i ∧ i < 320 * j + 320) → f1 i = gI σ 59058193 0 i) (g2 : ∀ i, ¬ (41 * j ≤ i ∧ i < 41 * j + 41) → f2 i = gI σ 60860721 0 i) : zk (wI (wI (wI (rI (rI σ 59058193 0 f1) 60860721 0 f2) 59769904 0 j x) 61867056 0 j y) 62915632 0 j z) A s k := by
  obtain ⟨h1, h2, h3, h4, h5⟩ := hk
  obtain ⟨o1, o2, o3⟩ := ho
  have o1 := o1.1
  refine ⟨?_, ?_, ⟨?_, fun i hi => ?_⟩, ?_, fun i hi hn => ?_⟩
  · rw [gI_wI, if_neg (fun q => absurd q.1 (by decide)), gI_wI, if_neg (fun q => hs q.2.2)]; exact h1
  · rw [gI_wI, if_neg (fun q => hs q.2.2)]; exact h2
  · rw [gI_wI, if_neg (fun q => absurd q.1 (by decide)), gI_wI, if_neg (fun q => absurd q.1 (by decide)), gI_wI, if_neg (fun q => absurd q.1 (by decide)), hI_rI, if_pos ⟨rfl, rfl⟩, g2 _ (by omega)]; exact h3.1
  · rw [gI_wI, if_neg (fun q => absurd q.1 (by decide)), gI_wI, if_neg (fun q => absurd q.1 (by decide)), gI_wI, if_neg (fun q => absurd q.1 (by decide)), hI_rI, if_pos ⟨rfl, rfl⟩, g2 _ (by omega)]; exact h3.2 i hi
  · rw [gI_wI, if_neg (fun q => absurd q.1 (by decide)), gI_wI, if_neg (fun q => absurd q.1 (by decide)), gI_wI, if_neg (fun q => hs q.2.2)]; exact h4
  · rw [gI_wI, if_neg (fun q => absurd q.1 (by decide)), gI_wI, if_neg (fun q => absurd q.1 (by decide)), gI_wI, if_neg (fun q => absurd q.1 (by decide)), hI_rI, if_neg (fun q => absurd q.1 (by decide)), hI_rI, if_pos ⟨rfl, rfl⟩, g1 _ (by omega)]
    exact h5 i hi hn
/-- the oldest goes: rows move down -/
theorem ml_oldest {σ0 : z_St} {A : w_A} {d n : Nat} (hn : 1 ≤ n) (hn33 : n ≤ 33) (ho : ∀ k, k < n → zk_ok A k) (p60 : gR σ0 8 60 0 = some (59058193, 0)) (p61 : gR σ0 8 61 0 = some (59769904, 0)) (p62 : gR σ0 8 62 0 = some (60860721, 0)) (p63 : gR σ0 8 63 0 = some (61867056, 0)) (p64 : gR σ0 8 64 0 = some (62915632, 0)) {Q : z_St → Option z_V → Prop} (k : ∀ σ, z_o5 σ0 σ → gI σ 8 59 0 = Int32.ofNat (n - 1) → (∀ s, s < n - 1 → zk σ A s (s + 1)) → Q σ none) : ∀ (m j : Nat) (σ : z_St), j + m = n - 1 → z_o5 σ0 σ → gI σ 8 59 0 = Int32.ofNat n → (∀ s, s < j → zk σ A s (s + 1)) → (∀ s, j ≤ s → s < n → zk σ A s s) →
    wp (E xP151 (zD (d + 1)) 1 [some (.inr (.inr (some (8, 0)))), some (.inl (Int32.ofNat j)), none] [] σ) Q
  | 0, j, σ, hj, h5, h59, r1, r2 => by
    refine wp_eq (e151_1 ..) ?_
    rw [h59, io_add_l]
    refine wp_if (fun _ => ?_) (fun h => ?_)
    · refine wp_eq (e151_6 ..) ?_
      rw [h59, show (1 : Int32) = Int32.ofNat 1 from rfl, io_sub hn]
      refine wp_sw (wp_ret (k _ ?_ (by rw [gI_wI, if_pos ⟨rfl, rfl, rfl⟩]) (fun s hs => ?_)))
      · refine o5_tr h5 ⟨rfl, rfl, fun _ _ _ => rfl, fun _ _ _ => rfl, fun a b n e => ?_⟩
        rw [gI_wI, if_neg (fun q => e (.inr q))]
      · exact r1 s (by omega)
    · rw [io_le (by omega) (by omega)] at h
      omega
  | m + 1, j, σ, hj, h5, h59, r1, r2 => by
    have hj31 : j < 2147483648 := by omega
    have hj32 : j + 1 < 2147483648 := by omega
    refine wp_eq (e151_1 ..) ?_
    rw [h59, io_add_l]
    refine wp_if (fun h => ?_) (fun _ => ?_)
    · rw [io_le (by omega) (by omega)] at h
      omega
    have q60 : gR σ 8 60 0 = some (59058193, 0) := (h5.2.2.2.1 _ _ _).trans p60
    have q61 : gR σ 8 61 0 = some (59769904, 0) := (h5.2.2.2.1 _ _ _).trans p61
    have q62 : gR σ 8 62 0 = some (60860721, 0) := (h5.2.2.2.1 _ _ _).trans p62
    have q63 : gR σ 8 63 0 = some (61867056, 0) := (h5.2.2.2.1 _ _ _).trans p63
    have q64 : gR σ 8 64 0 = some (62915632, 0) := (h5.2.2.2.1 _ _ _).trans p64
    refine wp_eq (e151_2 ..) ?_
    have hrow := ml_row (σ := σ) (d := d) (j := j) (by omega) q60 (Q := Q) (k := ?_) 320 0 rfl
    · rw [cp_0, rI_id] at hrow
      exact hrow
    refine wp_eq (e151_5 ..) (wp_cv ?_)
    rw [show gR (rI σ 59058193 0 (fn_cp (gI σ 59058193 0) (320 * (j + 1)) (320 * j) (gI σ 59058193 0) 320)) 8 62 0 = some (60860721, 0) from q62, show (41 : Int32) * Int32.ofNat j + 41 = Int32.ofNat (41 * (j + 1)) from by rw [show (41 : Int32) * Int32.ofNat j = Int32.ofNat (41 * j) from io_mul 41 j, io_add_l]; rfl, show (41 : Int32) * Int32.ofNat j = Int32.ofNat (41 * j) from io_mul 41 j]
    refine mc_copyRow (d := d) aty_60860721 aty_60860721 (by rw [alen_60860721]; omega) (by rw [alen_60860721]; omega) (by rw [alen_60860721]; decide) (by rw [alen_60860721]; decide) (fun _ => by omega) ⟨rfl, ?_⟩
    have eg : gI (rI σ 59058193 0 (fn_cp (gI σ 59058193 0) (320 * (j + 1)) (320 * j) (gI σ 59058193 0) 320)) 60860721 0 = gI σ 60860721 0 := by
      funext i
      rw [hI_rI, if_neg (fun q => absurd q.1 (by decide))]
    rw [eg]
    refine (wp_ar (k := j + 1) q61 aty_59769904 alen_59769904 (io_add_l j 1) (by omega) (by decide) ?_)
    refine (wp_ar (k := j) q61 aty_59769904 alen_59769904 rfl (by omega) (by decide) ?_)
    simp only [io_add_l, io_nat hj31, io_nat hj32]
    refine wp_sw (wp_ar (k := j + 1) q63 aty_61867056 alen_61867056 rfl (by omega) (by decide) ?_)
    refine (wp_ar (k := j) q63 aty_61867056 alen_61867056 rfl (by omega) (by decide) ?_)
    simp only [io_nat hj31, io_nat hj32]
    refine wp_sw (wp_ar (k := j + 1) q64 aty_62915632 alen_62915632 rfl (by omega) (by decide) ?_)
    refine (wp_ar (k := j) q64 aty_62915632 alen_62915632 rfl (by omega) (by decide) ?_)
    simp only [io_nat hj31, io_nat hj32]
    refine wp_sw ?_
    have mv := zk_mv (r2 (j + 1) (by omega) (by omega)) (ho (j + 1) (by omega)) 0
    have st : ∀ s k, ¬ s = j → k < n → zk σ A s k → zk _ A s k := fun s k e1 e2 e3 => zk_st (j := j) e3 (ho k e2) e1 (fn_cp (gI σ 59058193 0) (320 * (j + 1)) (320 * j) (gI σ 59058193 0) 320) (fn_cp (gI σ 60860721 0) (41 * (j + 1)) (41 * j) (gI σ 60860721 0) 41) (gI σ 59769904 0 (j + 1)) (gI σ 61867056 0 (j + 1)) (gI σ 62915632 0 (j + 1)) (fun i hi => by unfold fn_cp; rw [if_neg hi]) (fun i hi => by unfold fn_cp; rw [if_neg hi])
    refine ml_oldest hn hn33 ho p60 p61 p62 p63 p64 k m (j + 1) _ (by omega) (o5_tr h5 (o5_tr (o5_rI σ (.inl rfl) _) (o5_tr (o5_rI _ (.inr (.inr (.inl rfl))) _) (o5_tr (o5_wI _ (.inr (.inl rfl)) _) (o5_tr (o5_wI _ (.inr (.inr (.inr (.inl rfl)))) _) (o5_wI _ (.inr (.inr (.inr (.inr rfl)))) _)))))) h59 (fun s hs => ?_) (fun s h1 h2 => st s s (by omega) h2 (r2 s (by omega) h2))
    by_cases e : s = j
    · subst e
      exact mv
    · exact st s (s + 1) e (by omega) (r1 s (by omega))
/-- a state whose kept answers are others -/
def z_fK (A : w_A) (kb : Nat) (e : Nat → Int32) (t o : Nat → Nat) (h c : Nat → List Int32) : w_A := sN (tN (tN (tL (tL (tI A 18 e) 10 c) 11 h) 15 t) 18 o) 4 0 kb
theorem o5_row {σ σ' : z_St} (h : z_o5 σ σ') : σ' = wI (rI (rI (rI (rI (rI σ 59058193 0 (gI σ' 59058193 0)) 59769904 0 (gI σ' 59769904 0)) 60860721 0 (gI σ' 60860721 0)) 61867056 0 (gI σ' 61867056 0)) 62915632 0 (gI σ' 62915632 0)) 8 59 0 (gI σ' 8 59 0) := by
  obtain ⟨h1, h2, h3, h4, h5⟩ := h
  refine St_ext h1 h2 (fun a b n => ?_) h3 h4
  rw [gI_wI, hI_rI, hI_rI, hI_rI, hI_rI, hI_rI]
  by_cases e0 : a = 8 ∧ b = 59 ∧ n = 0
  · obtain ⟨rfl, rfl, rfl⟩ := e0
    rfl
  rw [if_neg e0]
  by_cases e1 : a = 62915632 ∧ b = 0
  · obtain ⟨rfl, rfl⟩ := e1
    rfl
  rw [if_neg e1]
  by_cases e2 : a = 61867056 ∧ b = 0
  · obtain ⟨rfl, rfl⟩ := e2
    rfl
  rw [if_neg e2]
  by_cases e3 : a = 60860721 ∧ b = 0
  · obtain ⟨rfl, rfl⟩ := e3
    rfl
  rw [if_neg e3]
  by_cases e4 : a = 59769904 ∧ b = 0
  · obtain ⟨rfl, rfl⟩ := e4
    rfl
  rw [if_neg e4]
  by_cases e5 : a = 59058193 ∧ b = 0
  · obtain ⟨rfl, rfl⟩ := e5
    rfl
  rw [if_neg e5]
  refine h5 a b n ?_
  rintro (⟨q1, q2⟩ | q)
  · rcases q2 with q | q | q | q | q
    · exact e5 ⟨q, q1⟩
    · exact e4 ⟨q, q1⟩
    · exact e3 ⟨q, q1⟩
    · exact e2 ⟨q, q1⟩
    · exact e1 ⟨q, q1⟩
  · exact e0 q
theorem wm_K {T σ σ' : z_St} {A : w_A} (hM : w_M T σ A) (h5 : z_o5 σ σ') {kb : Nat} (h59 : gI σ' 8 59 0 = Int32.ofNat kb) (e : Nat → Int32) (t o : Nat → Nat) (h c : Nat → List Int32) (hk : ∀ s, s < kb → zk σ' (z_fK A kb e t o h c) s s) : w_M T σ' (z_fK A kb e t o h c) := by
  have hm : m_K σ' (z_fK A kb e t o h c) := by
    intro s hs
    have hs : s < kb := by
      have : vN (z_fK A kb e t o h c) 4 0 = kb := by unfold z_fK; rw [vN_sN, if_pos ⟨rfl, rfl⟩]
      rw [← this]
      exact hs
    exact hk s hs
  rw [o5_row h5] at hm ⊢
  rw [h59] at hm ⊢
  obtain ⟨hT, hA, hB, hC, hD, hG, hH, hI, hJ, hK, hL, hM, hN⟩ := hM
  exact ⟨m_T_wI (m_T_rI (m_T_rI (m_T_rI (m_T_rI (m_T_rI hT (z_isM_yes _ rfl)) (z_isM_yes _ rfl)) (z_isM_yes _ rfl)) (z_isM_yes _ rfl)) (z_isM_yes _ rfl)) (.inl rfl), hA, hB, ⟨hC.1, hC.2.1, hC.2.2.1, hC.2.2.2.1, rfl, hC.2.2.2.2.2⟩, hD, hG, hH, hI, hJ, hm, hL, hM, hN⟩
