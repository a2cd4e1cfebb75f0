/-! PART 97a (src 97a.made.src): what the constructors make, step by step; the memory that they come to is known ahead -/
set_option maxHeartbeats 400000
def z_mh : List Int32 := [109, 46, 104, 111, 109, 101]
def z_mui (xs : Nat → Int32) (c d m : Nat) : Int32 :=
  if c = 14 then (if d = 0 then xs m else 0)
  else if c = 1 then (if d = 1 then (if m = 1 then 6 else if m = 2 then 4 else if m = 3 then 4 else 0) else 0)
  else if c = 80741649 then (if d = 1 then z_mh.getD m 0 else if d = 2 then ([104, 111, 109, 101] : List Int32).getD m 0 else if d = 3 then ([112, 101, 101, 114] : List Int32).getD m 0 else 0)
  else if c = 4 then (if d = 0 ∧ 1 ≤ m ∧ m ≤ 8 then Int32.ofNat m else 0)
  else if c = 8 then (if m = 0 then (if d = 6 then 6 else if d = 34 then 1 else 0) else 0)
  else if c = 8389905 then (if d = 0 then z_mh.getD m 0 else 0)
  else if c = 65012112 then (if d = 0 then z_keys.getD m 0 else 0)
  else 0
def z_ptM : List (Nat × Nat) := [(3, 7341329), (5, 8389905), (8, 9442321), (9, 10485904), (10, 11534482), (11, 12583056), (12, 13631632), (13, 14680208), (14, 15728784), (15, 16777360), (16, 17825938), (17, 18874512), (18, 19923088), (19, 20971664), (20, 22020240), (21, 23068816), (22, 24117392), (23, 25165968), (24, 26214544), (25, 27263120), (26, 28311856), (27, 29360432), (28, 30409008), (29, 31630097), (30, 32506160), (31, 34130449), (32, 34603312), (33, 35651888), (36, 36700691), (37, 37749267), (38, 38797843), (39, 39846419), (41, 40915473), (42, 41964049), (43, 43012625), (44, 44040720), (45, 45089299), (46, 46137875), (47, 47186448), (48, 48235024), (50, 49367057), (51, 50415633), (52, 51464209), (53, 52430867), (54, 53479440), (55, 54528016), (56, 55576592), (57, 56625168), (58, 57673744), (60, 59058193), (61, 59769904), (62, 60860721), (63, 61867056), (64, 62915632), (65, 63985553), (76, 65012112), (77, 66060688), (78, 67109264), (79, 68157840), (85, 69206192), (86, 70254768), (87, 71303344)]
def z_mur (c d m : Nat) : Option z_Ad :=
  if c = 0 then (if m = 0 then (if d = 0 then some (1, 0) else if d = 1 then some (1, 1) else if d = 2 then some (1, 2) else if d = 3 then some (1, 3) else if d = 4 then some (2, 0) else if d = 5 then some (3, 0) else if d = 6 then some (1048852, 0) else if d = 7 then some (2097301, 0) else if d = 9 then some (3146262, 0) else if d = 11 then some (4194839, 0) else if d = 13 then some (5244952, 0) else if d = 15 then some (6292505, 0) else none) else none)
  else if c = 1 then (if d = 0 then some (80741649, m) else none)
  else if c = 2 then (if d = 0 ∧ m = 0 then some (79714193, 0) else none)
  else if c = 3 then (if m = 0 then (if d = 0 then some (75497658, 0) else if d = 8 then some (76548624, 0) else if d = 9 then some (77597200, 0) else if d = 10 then some (78645776, 0) else none) else none)
  else if c = 4 then (if d = 4 then some (73419537, m) else if d = 6 then some (74512913, m) else none)
  else if c = 5 then (if d < 3 then some (1, 4 + d + 3 * m) else none)
  else if c = 6 then (if d < 3 then some (1, 52 + d + 3 * m) else none)
  else if c = 7 then (if d = 0 then some (1, 244 + m) else if d = 3 then some (72361361, m) else none)
  else if c = 9 then (if d = 1 then some (1, 276 + m) else none)
  else if c = 75497658 then (if d = 0 ∧ m < 5 then some (12, m) else none)
  else if c = 1048852 then (if d = 0 ∧ m < 8 then some (4, m + 1) else none)
  else if c = 4194839 then (if d = 0 ∧ m < 16 then some (5, m) else none)
  else if c = 5244952 then (if d = 0 ∧ m < 64 then some (6, m) else none)
  else if c = 6292505 then (if d = 0 ∧ m < 32 then some (7, m) else none)
  else if c = 8 then (if m = 0 then (z_ptM.find? fun q => decide (q.1 = d)).map fun q => (q.2, 0) else none)
  else none
/-- σ's memory is the known one but for the places EI, ER; what of it was counted -/
def z_cs (L : Nat) (xs : Nat → Int32) (U : Nat → Prop) (EI ER : Nat → Nat → Nat → Prop) (f : Nat → Nat) (ln sl : Nat) (σ : z_St) : Prop :=
  (∀ c d m, ¬ EI c d m → gI σ c d m = z_mui xs c d m) ∧ (∀ c d m, gJ σ c d m = 0) ∧ (∀ c d m, ¬ ER c d m → gR σ c d m = z_mur c d m) ∧ cn σ = f ∧ (al σ).length = ln ∧ z_sl (al σ) = sl ∧ ∀ a, U a → cn σ a = if a = 14 then L else 0
theorem cs_O {L : Nat} {xs : Nat → Int32} {U V : Nat → Prop} {EI ER FI FR : Nat → Nat → Nat → Prop} {f : Nat → Nat} {ln sl : Nat} {σ : z_St} (h : z_cs L xs U EI ER f ln sl σ) {a n : Nat} (ha : a < 16) (hI : ∀ d, FI a d n ∨ z_mui xs a d n = 0) (hR : ∀ d, FR a d n ∨ z_mur a d n = none) (mI : ∀ c d m, EI c d m → FI c d m) (mR : ∀ c d m, ER c d m → FR c d m) (hU : ∀ b, V b → U b ∧ ¬ b = a) : z_cs L xs V FI FR (va_up f a (f a + 1)) (ln + 1) (sl + oN a) (nO σ a n) := by
  obtain ⟨h1, h2, h3, h4, h5, h6, h7⟩ := h
  refine ⟨fun c d m g => ?_, fun c d m => ?_, fun c d m g => ?_, ?_, ?_, ?_, fun b hb => ?_⟩
  · show z_col σ.2.2.1 a n 0 c d m = _
    unfold z_col va_up
    by_cases e : c = a
    · rw [if_pos e]
      by_cases e2 : m = n
      · rw [if_pos e2]
        subst e e2
        rcases hI d with q | q
        · exact absurd q g
        · exact q.symm
      · rw [if_neg e2]; exact h1 c d m (fun q => g (mI _ _ _ q))
    · rw [if_neg e]; exact h1 c d m (fun q => g (mI _ _ _ q))
  · show z_col σ.2.2.2.1 a n 0 c d m = _
    rw [col_ap]
    split
    · rfl
    · exact h2 c d m
  · show z_col σ.2.2.2.2 a n none c d m = _
    unfold z_col va_up
    by_cases e : c = a
    · rw [if_pos e]
      by_cases e2 : m = n
      · rw [if_pos e2]
        subst e e2
        rcases hR d with q | q
        · exact absurd q g
        · exact q.symm
      · rw [if_neg e2]; exact h3 c d m (fun q => g (mR _ _ _ q))
    · rw [if_neg e]; exact h3 c d m (fun q => g (mR _ _ _ q))
  · show va_up σ.1 a (σ.1 a + 1) = _
    rw [show σ.1 = f from h4]
  · show (al σ ++ [(a, n)]).length = _
    rw [List.length_append, h5]; rfl
  · show z_sl (al σ ++ [(a, n)]) = _
    rw [sl_app, h6]
    show sl + ((if a < 16 then oN a else aLen a) + 0) = _
    rw [if_pos ha, Nat.add_zero]
  · obtain ⟨u1, u2⟩ := hU b hb
    show va_up σ.1 a (σ.1 a + 1) b = _
    unfold va_up
    rw [if_neg u2]
    exact h7 b u1
theorem cs_A {L : Nat} {xs : Nat → Int32} {U V : Nat → Prop} {EI ER FI FR : Nat → Nat → Nat → Prop} {f : Nat → Nat} {ln sl : Nat} {σ : z_St} (h : z_cs L xs U EI ER f ln sl σ) {a n : Nat} (ha : ¬ a < 16) (hI : ∀ m, FI a n m ∨ z_mui xs a n m = 0) (hR : ∀ m, FR a n m ∨ z_mur a n m = none) (mI : ∀ c d m, EI c d m → FI c d m) (mR : ∀ c d m, ER c d m → FR c d m) (hU : ∀ b, V b → U b ∧ ¬ b = a) : z_cs L xs V FI FR (va_up f a (f a + 1)) (ln + 1) (sl + aLen a) (nA σ a n) := by
  obtain ⟨h1, h2, h3, h4, h5, h6, h7⟩ := h
  refine ⟨fun c d m g => ?_, fun c d m => ?_, fun c d m g => ?_, ?_, ?_, ?_, fun b hb => ?_⟩
  · show z_row σ.2.2.1 a n (fun _ => 0) c d m = _
    unfold z_row
    by_cases e : c = a ∧ d = n
    · rw [if_pos e]
      obtain ⟨e, e2⟩ := e
      subst e e2
      rcases hI m with q | q
      · exact absurd q g
      · exact q.symm
    · rw [if_neg e]; exact h1 c d m (fun q => g (mI _ _ _ q))
  · show z_row σ.2.2.2.1 a n (fun _ => 0) c d m = _
    unfold z_row
    split
    · rfl
    · exact h2 c d m
  · show z_row σ.2.2.2.2 a n (fun _ => none) c d m = _
    unfold z_row
    by_cases e : c = a ∧ d = n
    · rw [if_pos e]
      obtain ⟨e, e2⟩ := e
      subst e e2
      rcases hR m with q | q
      · exact absurd q g
      · exact q.symm
    · rw [if_neg e]; exact h3 c d m (fun q => g (mR _ _ _ q))
  · show va_up σ.1 a (σ.1 a + 1) = _
    rw [show σ.1 = f from h4]
  · show (al σ ++ [(a, n)]).length = _
    rw [List.length_append, h5]; rfl
  · show z_sl (al σ ++ [(a, n)]) = _
    rw [sl_app, h6]
    show sl + ((if a < 16 then oN a else aLen a) + 0) = _
    rw [if_neg ha, Nat.add_zero]
  · obtain ⟨u1, u2⟩ := hU b hb
    show va_up σ.1 a (σ.1 a + 1) b = _
    unfold va_up
    rw [if_neg u2]
    exact h7 b u1
theorem cs_R {L : Nat} {xs : Nat → Int32} {U : Nat → Prop} {EI ER FR : Nat → Nat → Nat → Prop} {f : Nat → Nat} {ln sl : Nat} {σ : z_St} (h : z_cs L xs U EI ER f ln sl σ) {a b n : Nat} {x : Option z_Ad} (hx : x = z_mur a b n) (m : ∀ c d m, ER c d m → ¬ (c = a ∧ d = b ∧ m = n) → FR c d m) : z_cs L xs U EI FR f ln sl (wR σ a b n x) := by
  obtain ⟨h1, h2, h3, h4, h5, h6, h7⟩ := h
  refine ⟨fun c d m g => h1 c d m g, fun c d m => h2 c d m, fun c d m' g => ?_, h4, h5, h6, h7⟩
  rw [gR_wR]
  by_cases e : c = a ∧ d = b ∧ m' = n
  · rw [if_pos e, hx, e.1, e.2.1, e.2.2]
  · rw [if_neg e]
    exact h3 c d m' (fun q => g (m _ _ _ q e))
theorem cs_I {L : Nat} {xs : Nat → Int32} {U : Nat → Prop} {EI ER FI : Nat → Nat → Nat → Prop} {f : Nat → Nat} {ln sl : Nat} {σ : z_St} (h : z_cs L xs U EI ER f ln sl σ) {a b n : Nat} {x : Int32} (hx : x = z_mui xs a b n ∨ FI a b n) (m : ∀ c d m, EI c d m → ¬ (c = a ∧ d = b ∧ m = n) → FI c d m) : z_cs L xs U FI ER f ln sl (wI σ a b n x) := by
  obtain ⟨h1, h2, h3, h4, h5, h6, h7⟩ := h
  refine ⟨fun c d m' g => ?_, fun c d m => h2 c d m, fun c d m g => h3 c d m g, h4, h5, h6, h7⟩
  rw [gI_wI]
  by_cases e : c = a ∧ d = b ∧ m' = n
  · rw [if_pos e]
    obtain ⟨rfl, rfl, rfl⟩ := e
    rcases hx with q | q
    · exact q
    · exact absurd q g
  · rw [if_neg e]
    exact h1 c d m' (fun q => g (m _ _ _ q e))
/-- a place that is right after all -/
theorem cs_cl {L : Nat} {xs : Nat → Int32} {U : Nat → Prop} {EI ER FI : Nat → Nat → Nat → Prop} {f : Nat → Nat} {ln sl : Nat} {σ : z_St} (h : z_cs L xs U EI ER f ln sl σ) {a b n : Nat} (hx : gI σ a b n = z_mui xs a b n) (m : ∀ c d m, EI c d m → ¬ (c = a ∧ d = b ∧ m = n) → FI c d m) : z_cs L xs U FI ER f ln sl σ := by
  obtain ⟨h1, h2, h3, h4, h5, h6, h7⟩ := h
  refine ⟨fun c d m' g => ?_, h2, h3, h4, h5, h6, h7⟩
  by_cases e : c = a ∧ d = b ∧ m' = n
  · obtain ⟨rfl, rfl, rfl⟩ := e
    exact hx
  · exact h1 c d m' (fun q => g (m _ _ _ q e))
theorem cs_mono {L : Nat} {xs : Nat → Int32} {U : Nat → Prop} {EI ER FI FR : Nat → Nat → Nat → Prop} {f : Nat → Nat} {ln sl : Nat} {σ : z_St} (h : z_cs L xs U EI ER f ln sl σ) (mI : ∀ c d m, EI c d m → FI c d m) (mR : ∀ c d m, ER c d m → FR c d m) : z_cs L xs U FI FR f ln sl σ :=
  ⟨fun c d m g => h.1 c d m (fun q => g (mI _ _ _ q)), h.2.1, fun c d m g => h.2.2.1 c d m (fun q => g (mR _ _ _ q)), h.2.2.2⟩
/-- what stays uncounted while the component is made -/
def z_un (a : Nat) : Prop := a = 8 ∨ a = 9 ∨ a = 10 ∨ a = 14 ∨ (7 ≤ a / 1048576 ∧ a / 1048576 ≤ 68)
theorem mui_T {xs : Nat → Int32} {t : Nat} (h : ¬ (1 ≤ t ∧ t ≤ 3)) : (∀ d, z_mui xs 1 d t = 0) ∧ ∀ m, z_mui xs 80741649 t m = 0 := by
  refine ⟨fun d => ?_, fun m => ?_⟩
  · unfold z_mui
    rw [if_neg (by decide), if_pos rfl]
    split
    · rw [if_neg (by omega), if_neg (by omega), if_neg (by omega)]
    · rfl
  · unfold z_mui
    rw [if_neg (by decide), if_neg (by decide), if_pos rfl, if_neg (by omega), if_neg (by omega), if_neg (by omega)]
theorem mui_0 {xs : Nat → Int32} {c : Nat} (h : ¬ c = 14 ∧ ¬ c = 1 ∧ ¬ c = 80741649 ∧ ¬ c = 4 ∧ ¬ c = 8 ∧ ¬ c = 8389905 ∧ ¬ c = 65012112) (d m : Nat) : z_mui xs c d m = 0 := by
  obtain ⟨h1, h2, h3, h4, h5, h6, h7⟩ := h
  unfold z_mui
  rw [if_neg h1, if_neg h2, if_neg h3, if_neg h4, if_neg h5, if_neg h6, if_neg h7]
theorem mur_0 {c : Nat} (h : ¬ c = 0 ∧ ¬ c = 1 ∧ ¬ c = 2 ∧ ¬ c = 3 ∧ ¬ c = 4 ∧ ¬ c = 5 ∧ ¬ c = 6 ∧ ¬ c = 7 ∧ ¬ c = 9 ∧ ¬ c = 75497658 ∧ ¬ c = 1048852 ∧ ¬ c = 4194839 ∧ ¬ c = 5244952 ∧ ¬ c = 6292505 ∧ ¬ c = 8) (d m : Nat) : z_mur c d m = none := by
  obtain ⟨h1, h2, h3, h4, h5, h6, h7, h8, h9, g1, g2, g3, g4, g5, g6⟩ := h
  unfold z_mur
  rw [if_neg h1, if_neg h2, if_neg h3, if_neg h4, if_neg h5, if_neg h6, if_neg h7, if_neg h8, if_neg h9, if_neg g1, if_neg g2, if_neg g3, if_neg g4, if_neg g5, if_neg g6]
/-- a new text -/
theorem cs_T {L : Nat} {xs : Nat → Int32} {EI ER : Nat → Nat → Nat → Prop} {f : Nat → Nat} {ln sl : Nat} {σ : z_St} (h : z_cs L xs z_un EI ER f ln sl σ) {t : Nat} (h1 : f 1 = t) (h8 : f 80741649 = t) (hE : (∀ d, EI 1 d t ∨ z_mui xs 1 d t = 0) ∧ ∀ m, EI 80741649 t m ∨ z_mui xs 80741649 t m = 0) {d : Nat} {F : z_St → Option z_R} {Q : z_St → Option z_V → Prop} (k : ∀ σ2 f2, z_cs L xs z_un EI ER f2 (ln + 2) (sl + 42) σ2 → f2 = va_up (va_up f 1 (t + 1)) 80741649 (t + 1) → wp (F σ2) Q) : wp (sw (nO σ 1 (cn σ 1 + z_off 1)) fun σ1 => cv (zD (d + 1) 238 [.inr (.inr (some (1, cn σ 1 + z_off 1)))] σ1) F) Q := by
  have e0 : cn σ 1 + z_off 1 = t := by rw [h.2.2.2.1, h1]; rfl
  rw [e0]
  have e8 : cn (nO σ 1 t) 80741649 + z_off 80741649 = t := by
    show va_up (cn σ) 1 (cn σ 1 + 1) 80741649 + z_off 80741649 = t
    rw [h.2.2.2.1]
    exact h8
  refine wp_sw (wp_cv (wp_eq (c238 ..) (wp_eq (e238_0 ..) (wp_sw (wp_sw (wp_ret ⟨rfl, ?_⟩))))))
  rw [e8]
  have a1 := cs_O (V := z_un) (FI := EI) (FR := fun c d m => ER c d m ∨ (c = 1 ∧ d = 0 ∧ m = t)) h (a := 1) (n := t) (by decide) hE.1 (fun d => by
    by_cases e : d = 0
    · exact .inl (.inr ⟨rfl, e, rfl⟩)
    · right
      unfold z_mur
      rw [if_neg (by decide), if_pos rfl, if_neg e]) (fun _ _ _ q => q) (fun _ _ _ q => .inl q) (fun b hb => ⟨hb, fun e => by subst e; unfold z_un at hb; omega⟩)
  have a2 := cs_A (V := z_un) (FI := EI) (FR := fun c d m => ER c d m ∨ (c = 1 ∧ d = 0 ∧ m = t)) a1 (a := 80741649) (n := t) (by decide) hE.2 (fun m => .inr (mur_0 (by decide) _ _)) (fun _ _ _ q => q) (fun _ _ _ q => q) (fun b hb => ⟨hb, fun e => by subst e; unfold z_un at hb; omega⟩)
  have a3 := cs_R (FR := ER) a2 (a := 1) (b := 0) (n := t) (x := some (80741649, t)) (by
    unfold z_mur
    rw [if_neg (by decide), if_pos rfl, if_pos rfl]) (fun c d m q hn => q.elim id (fun g => absurd g hn))
  have e1 : sl + oN 1 + aLen 80741649 = sl + 42 := by
    have g1 := alen_80741649
    have g2 : oN 1 = 2 := rfl
    omega
  rw [e1] at a3
  refine k _ _ a3 ?_
  rw [h1, show va_up f 1 (t + 1) 80741649 = t from h8]
