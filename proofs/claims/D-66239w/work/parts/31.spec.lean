/-! PART 31 (src 31.spec.src): the plain system: its state by variables, and what its functions do -/
abbrev w_Q : Type := Int32 × Nat × Nat
/-- a message that was gone through: connection, length, flags, command, application, hop, end, what is wrong, its code, its own attributes (code, from, size) -/
abbrev w_P : Type := Nat × Nat × Int32 × Int32 × Int32 × Int32 × Int32 × Int32 × Int32 × List w_Q
/-- ints, longs, numbers, rows of octets, the message at hand; each by variable and index -/
abbrev w_A : Type := (Nat → Nat → Int32) × (Nat → Nat → Int64) × (Nat → Nat → Nat) × (Nat → Nat → List Int32) × Option w_P
def vI (A : w_A) (v i : Nat) : Int32 := A.1 v i
def vJ (A : w_A) (v i : Nat) : Int64 := A.2.1 v i
def vN (A : w_A) (v i : Nat) : Nat := A.2.2.1 v i
def vL (A : w_A) (v i : Nat) : List Int32 := A.2.2.2.1 v i
def vP (A : w_A) : Option w_P := A.2.2.2.2
def up2 {α : Type} (f : Nat → Nat → α) (v i : Nat) (x : α) : Nat → Nat → α := fun w j => if w = v ∧ j = i then x else f w j
def tp2 {α : Type} (f : Nat → Nat → α) (v : Nat) (r : Nat → α) : Nat → Nat → α := fun w j => if w = v then r j else f w j
def sI (A : w_A) (v i : Nat) (x : Int32) : w_A := (up2 A.1 v i x, A.2)
def sJ (A : w_A) (v i : Nat) (x : Int64) : w_A := (A.1, up2 A.2.1 v i x, A.2.2)
def sN (A : w_A) (v i : Nat) (x : Nat) : w_A := (A.1, A.2.1, up2 A.2.2.1 v i x, A.2.2.2)
def sL (A : w_A) (v i : Nat) (x : List Int32) : w_A := (A.1, A.2.1, A.2.2.1, up2 A.2.2.2.1 v i x, A.2.2.2.2)
def sP (A : w_A) (x : Option w_P) : w_A := (A.1, A.2.1, A.2.2.1, A.2.2.2.1, x)
/-- whole rows -/
def tI (A : w_A) (v : Nat) (x : Nat → Int32) : w_A := (tp2 A.1 v x, A.2)
def tJ (A : w_A) (v : Nat) (x : Nat → Int64) : w_A := (A.1, tp2 A.2.1 v x, A.2.2)
def tN (A : w_A) (v : Nat) (x : Nat → Nat) : w_A := (A.1, A.2.1, tp2 A.2.2.1 v x, A.2.2.2)
def tL (A : w_A) (v : Nat) (x : Nat → List Int32) : w_A := (A.1, A.2.1, A.2.2.1, tp2 A.2.2.2.1 v x, A.2.2.2.2)
theorem vI_sI (A : w_A) (v i : Nat) (x : Int32) (w j : Nat) : vI (sI A v i x) w j = if w = v ∧ j = i then x else vI A w j := rfl
theorem vJ_sJ (A : w_A) (v i : Nat) (x : Int64) (w j : Nat) : vJ (sJ A v i x) w j = if w = v ∧ j = i then x else vJ A w j := rfl
theorem vN_sN (A : w_A) (v i : Nat) (x : Nat) (w j : Nat) : vN (sN A v i x) w j = if w = v ∧ j = i then x else vN A w j := rfl
theorem vL_sL (A : w_A) (v i : Nat) (x : List Int32) (w j : Nat) : vL (sL A v i x) w j = if w = v ∧ j = i then x else vL A w j := rfl
theorem vP_sP (A : w_A) (x : Option w_P) : vP (sP A x) = x := rfl
theorem vI_tI (A : w_A) (v : Nat) (x : Nat → Int32) (w j : Nat) : vI (tI A v x) w j = if w = v then x j else vI A w j := rfl
theorem vJ_tJ (A : w_A) (v : Nat) (x : Nat → Int64) (w j : Nat) : vJ (tJ A v x) w j = if w = v then x j else vJ A w j := rfl
theorem vN_tN (A : w_A) (v : Nat) (x : Nat → Nat) (w j : Nat) : vN (tN A v x) w j = if w = v then x j else vN A w j := rfl
theorem vL_tL (A : w_A) (v : Nat) (x : Nat → List Int32) (w j : Nat) : vL (tL A v x) w j = if w = v then x j else vL A w j := rfl
theorem vI_sJ (A : w_A) (v i : Nat) (x : Int64) (w j : Nat) : vI (sJ A v i x) w j = vI A w j := rfl
theorem vI_tJ (A : w_A) (v : Nat) (x : Nat → Int64) (w j : Nat) : vI (tJ A v x) w j = vI A w j := rfl
theorem vI_sN (A : w_A) (v i : Nat) (x : Nat) (w j : Nat) : vI (sN A v i x) w j = vI A w j := rfl
theorem vI_tN (A : w_A) (v : Nat) (x : Nat → Nat) (w j : Nat) : vI (tN A v x) w j = vI A w j := rfl
theorem vI_sL (A : w_A) (v i : Nat) (x : List Int32) (w j : Nat) : vI (sL A v i x) w j = vI A w j := rfl
theorem vI_tL (A : w_A) (v : Nat) (x : Nat → List Int32) (w j : Nat) : vI (tL A v x) w j = vI A w j := rfl
theorem vI_sP (A : w_A) (x : Option w_P) (w j : Nat) : vI (sP A x) w j = vI A w j := rfl
theorem vP_sI (A : w_A) (v i : Nat) (x : Int32) : vP (sI A v i x) = vP A := rfl
theorem vP_tI (A : w_A) (v : Nat) (x : Nat → Int32) : vP (tI A v x) = vP A := rfl
theorem vJ_sI (A : w_A) (v i : Nat) (x : Int32) (w j : Nat) : vJ (sI A v i x) w j = vJ A w j := rfl
theorem vJ_tI (A : w_A) (v : Nat) (x : Nat → Int32) (w j : Nat) : vJ (tI A v x) w j = vJ A w j := rfl
theorem vJ_sN (A : w_A) (v i : Nat) (x : Nat) (w j : Nat) : vJ (sN A v i x) w j = vJ A w j := rfl
theorem vJ_tN (A : w_A) (v : Nat) (x : Nat → Nat) (w j : Nat) : vJ (tN A v x) w j = vJ A w j := rfl
theorem vJ_sL (A : w_A) (v i : Nat) (x : List Int32) (w j : Nat) : vJ (sL A v i x) w j = vJ A w j := rfl
theorem vJ_tL (A : w_A) (v : Nat) (x : Nat → List Int32) (w j : Nat) : vJ (tL A v x) w j = vJ A w j := rfl
theorem vJ_sP (A : w_A) (x : Option w_P) (w j : Nat) : vJ (sP A x) w j = vJ A w j := rfl
theorem vP_sJ (A : w_A) (v i : Nat) (x : Int64) : vP (sJ A v i x) = vP A := rfl
theorem vP_tJ (A : w_A) (v : Nat) (x : Nat → Int64) : vP (tJ A v x) = vP A := rfl
theorem vN_sI (A : w_A) (v i : Nat) (x : Int32) (w j : Nat) : vN (sI A v i x) w j = vN A w j := rfl
theorem vN_tI (A : w_A) (v : Nat) (x : Nat → Int32) (w j : Nat) : vN (tI A v x) w j = vN A w j := rfl
theorem vN_sJ (A : w_A) (v i : Nat) (x : Int64) (w j : Nat) : vN (sJ A v i x) w j = vN A w j := rfl
theorem vN_tJ (A : w_A) (v : Nat) (x : Nat → Int64) (w j : Nat) : vN (tJ A v x) w j = vN A w j := rfl
theorem vN_sL (A : w_A) (v i : Nat) (x : List Int32) (w j : Nat) : vN (sL A v i x) w j = vN A w j := rfl
theorem vN_tL (A : w_A) (v : Nat) (x : Nat → List Int32) (w j : Nat) : vN (tL A v x) w j = vN A w j := rfl
theorem vN_sP (A : w_A) (x : Option w_P) (w j : Nat) : vN (sP A x) w j = vN A w j := rfl
theorem vP_sN (A : w_A) (v i : Nat) (x : Nat) : vP (sN A v i x) = vP A := rfl
theorem vP_tN (A : w_A) (v : Nat) (x : Nat → Nat) : vP (tN A v x) = vP A := rfl
theorem vL_sI (A : w_A) (v i : Nat) (x : Int32) (w j : Nat) : vL (sI A v i x) w j = vL A w j := rfl
theorem vL_tI (A : w_A) (v : Nat) (x : Nat → Int32) (w j : Nat) : vL (tI A v x) w j = vL A w j := rfl
theorem vL_sJ (A : w_A) (v i : Nat) (x : Int64) (w j : Nat) : vL (sJ A v i x) w j = vL A w j := rfl
theorem vL_tJ (A : w_A) (v : Nat) (x : Nat → Int64) (w j : Nat) : vL (tJ A v x) w j = vL A w j := rfl
theorem vL_sN (A : w_A) (v i : Nat) (x : Nat) (w j : Nat) : vL (sN A v i x) w j = vL A w j := rfl
theorem vL_tN (A : w_A) (v : Nat) (x : Nat → Nat) (w j : Nat) : vL (tN A v x) w j = vL A w j := rfl
theorem vL_sP (A : w_A) (x : Option w_P) (w j : Nat) : vL (sP A x) w j = vL A w j := rfl
theorem vP_sL (A : w_A) (v i : Nat) (x : List Int32) : vP (sL A v i x) = vP A := rfl
theorem vP_tL (A : w_A) (v : Nat) (x : Nat → List Int32) : vP (tL A v x) = vP A := rfl
theorem sN_sI_or (A : w_A) (v i w j : Nat) (x : Nat) (y : Int32) : sN (sI A w j y) v i x = sI (sN A v i x) w j y := rfl
theorem sN_sJ_or (A : w_A) (v i w j : Nat) (x : Nat) (y : Int64) : sN (sJ A w j y) v i x = sJ (sN A v i x) w j y := rfl
theorem sN_sL_or (A : w_A) (v i w j : Nat) (x : Nat) (y : List Int32) : sN (sL A w j y) v i x = sL (sN A v i x) w j y := rfl
theorem sN_sP_or (A : w_A) (v i : Nat) (x : Nat) (y : Option w_P) : sN (sP A y) v i x = sP (sN A v i x) y := rfl
theorem sI_sJ_or (A : w_A) (v i w j : Nat) (x : Int32) (y : Int64) : sI (sJ A w j y) v i x = sJ (sI A v i x) w j y := rfl
theorem sI_sL_or (A : w_A) (v i w j : Nat) (x : Int32) (y : List Int32) : sI (sL A w j y) v i x = sL (sI A v i x) w j y := rfl
theorem sI_sP_or (A : w_A) (v i : Nat) (x : Int32) (y : Option w_P) : sI (sP A y) v i x = sP (sI A v i x) y := rfl
theorem sJ_sL_or (A : w_A) (v i w j : Nat) (x : Int64) (y : List Int32) : sJ (sL A w j y) v i x = sL (sJ A v i x) w j y := rfl
theorem sJ_sP_or (A : w_A) (v i : Nat) (x : Int64) (y : Option w_P) : sJ (sP A y) v i x = sP (sJ A v i x) y := rfl
theorem sL_sP_or (A : w_A) (v i : Nat) (x : List Int32) (y : Option w_P) : sL (sP A y) v i x = sP (sL A v i x) y := rfl
theorem up2_up2 {α : Type} (f : Nat → Nat → α) (v i : Nat) (x y : α) : up2 (up2 f v i x) v i y = up2 f v i y := by
  funext w j
  unfold up2
  by_cases h : w = v ∧ j = i
  · rw [if_pos h, if_pos h]
  · rw [if_neg h, if_neg h, if_neg h]
theorem up2_ord {α : Type} (f : Nat → Nat → α) {v w : Nat} (h : v < w) (i j : Nat) (x y : α) : up2 (up2 f w i x) v j y = up2 (up2 f v j y) w i x := by
  funext a b
  unfold up2
  by_cases h1 : a = v ∧ b = j
  · by_cases h2 : a = w ∧ b = i
    · omega
    · rw [if_pos h1, if_neg h2, if_pos h1]
  · rw [if_neg h1, if_neg h1]
theorem up2_id {α : Type} (f : Nat → Nat → α) (v i : Nat) {x : α} (h : f v i = x) : up2 f v i x = f := by
  funext a b
  unfold up2
  by_cases h1 : a = v ∧ b = i
  · rw [if_pos h1, h1.1, h1.2, h]
  · rw [if_neg h1]
theorem sI_sI (A : w_A) (v i : Nat) (x y : Int32) : sI (sI A v i x) v i y = sI A v i y := by unfold sI; rw [up2_up2]
theorem sJ_sJ (A : w_A) (v i : Nat) (x y : Int64) : sJ (sJ A v i x) v i y = sJ A v i y := by unfold sJ; rw [up2_up2]
theorem sN_sN (A : w_A) (v i : Nat) (x y : Nat) : sN (sN A v i x) v i y = sN A v i y := by unfold sN; rw [up2_up2]
theorem sL_sL (A : w_A) (v i : Nat) (x y : List Int32) : sL (sL A v i x) v i y = sL A v i y := by unfold sL; rw [up2_up2]
theorem sP_sP (A : w_A) (x y : Option w_P) : sP (sP A x) y = sP A y := rfl
theorem sI_or (A : w_A) {v w : Nat} (h : v < w) (i j : Nat) (x y : Int32) : sI (sI A w i x) v j y = sI (sI A v j y) w i x := by unfold sI; rw [up2_ord _ h]
theorem sJ_or (A : w_A) {v w : Nat} (h : v < w) (i j : Nat) (x y : Int64) : sJ (sJ A w i x) v j y = sJ (sJ A v j y) w i x := by unfold sJ; rw [up2_ord _ h]
theorem sN_or (A : w_A) {v w : Nat} (h : v < w) (i j : Nat) (x y : Nat) : sN (sN A w i x) v j y = sN (sN A v j y) w i x := by unfold sN; rw [up2_ord _ h]
theorem sL_or (A : w_A) {v w : Nat} (h : v < w) (i j : Nat) (x y : List Int32) : sL (sL A w i x) v j y = sL (sL A v j y) w i x := by unfold sL; rw [up2_ord _ h]
theorem sI_id (A : w_A) {v i : Nat} {x : Int32} (h : vI A v i = x) : sI A v i x = A := by unfold sI; rw [up2_id A.1 v i h]
theorem sJ_id (A : w_A) {v i : Nat} {x : Int64} (h : vJ A v i = x) : sJ A v i x = A := by unfold sJ; rw [up2_id A.2.1 v i h]
theorem sN_id (A : w_A) {v i : Nat} {x : Nat} (h : vN A v i = x) : sN A v i x = A := by unfold sN; rw [up2_id A.2.2.1 v i h]
theorem sL_id (A : w_A) {v i : Nat} {x : List Int32} (h : vL A v i = x) : sL A v i x = A := by unfold sL; rw [up2_id A.2.2.2.1 v i h]
theorem sP_id (A : w_A) : sP A (vP A) = A := rfl
/-! octets of numbers; messages that are made -/
def by8 (x : Int32) (k : Int32) : Int32 := (x >>> (8 * k &&& 31)).toInt8.toInt32
def b1 (x : Int32) : List Int32 := [by8 x 0]
def b3 (x : Int32) : List Int32 := [by8 x 2, by8 x 1, by8 x 0]
def b4 (x : Int32) : List Int32 := [by8 x 3, by8 x 2, by8 x 1, by8 x 0]
def b2i (c : Prop) [Decidable c] : Int32 := if c then 1 else 0
def fn_hd (flags cmd app h e : Int32) : List Int32 := [1, 0, 0, 0] ++ b1 flags ++ b3 cmd ++ b4 app ++ b4 h ++ b4 e
def fn_attr (code : Int32) (n : Nat) : List Int32 := b4 code ++ [64] ++ b3 (Int32.ofNat (8 + n))
def fn_pad (n : Nat) : List Int32 := List.replicate ((4 - n % 4) % 4) 0
def fn_txt (code : Int32) (l : List Int32) : List Int32 := fn_attr code l.length ++ l ++ fn_pad l.length
def fn_num (code v : Int32) : List Int32 := fn_attr code 4 ++ b4 v
def fn_me (A : w_A) : List Int32 := fn_txt 264 (vL A 1 0) ++ (fn_attr 296 4 ++ b4 1752132965)
def fn_addr : List Int32 := fn_attr 257 6 ++ [0, 1, 127, 0, 0, 1, 0, 0] ++ (fn_num 266 0 ++ (fn_attr 269 4 ++ b4 1885693298) ++ fn_num 258 4)
/-- with its length in its head -/
def fn_fix (l : List Int32) : List Int32 := l.take 1 ++ b3 (Int32.ofNat l.length) ++ l.drop 4
def fn_page (A : w_A) (l : List Int32) : w_A := sL A 12 0 l
def fn_app (A : w_A) (l : List Int32) : w_A := sL A 12 0 (vL A 12 0 ++ l)
def fn_lost (A : w_A) : w_A := sI A 14 0 (vI A 14 0 + 1)
def fn_send (A : w_A) (c : Nat) : w_A := if (vL A 3 c).length + (vL A 12 0).length ≤ 2000 then sL A 3 c (vL A 3 c ++ fn_fix (vL A 12 0)) else fn_lost A
/-! peers: what is said of them; connections of theirs -/
abbrev fn_up (A : w_A) (p : Nat) : Prop := vI A 0 p = 5 ∨ vI A 0 p = 6
abbrev fn_us (A : w_A) (p : Nat) : Prop := fn_up A p ∧ vI A 1 p = 1
def fn_conn (A : w_A) (p : Nat) : Nat := if vI A 0 p = 6 ∨ vN A 10 p = 0 then vN A 9 p else vN A 10 p
def fn_hop (A : w_A) : w_A := sN A 6 0 (vN A 6 0 + 1)
def fn_nh (A : w_A) : Int32 := Int32.ofNat (vN A 6 0 + 1)
def fn_sendOpening (A : w_A) (p : Nat) : w_A := fn_send (fn_page (sI (fn_hop A) 5 p (fn_nh A)) (fn_hd 128 257 0 (fn_nh A) (fn_nh A) ++ fn_me A ++ fn_addr)) (vN A 9 p)
def fn_sendWatch (A : w_A) (p : Nat) : w_A := fn_send (fn_page (sI (sI (fn_hop A) 6 p (fn_nh A)) 2 p 1) (fn_hd 128 280 0 (fn_nh A) (fn_nh A) ++ fn_me A ++ fn_num 278 1)) (fn_conn A p)
def fn_sendEnding (A : w_A) (p : Nat) (cause : Int32) : w_A := fn_send (fn_page (sI (fn_hop A) 7 p (fn_nh A)) (fn_hd 128 282 0 (fn_nh A) (fn_nh A) ++ fn_me A ++ fn_num 273 cause)) (fn_conn A p)
def fn_answerCame (A : w_A) (p : Nat) : w_A := fn_send (fn_page A (fn_hd (vI A 8 p &&& 64) 257 0 (vI A 9 p) (vI A 10 p) ++ fn_num 268 2001 ++ fn_me A ++ fn_addr)) (vN A 10 p)
/-! questions -/
def fn_first (n : Nat) (f : Nat → Bool) : Option Nat := (List.range n).find? f
def fn_usable (A : w_A) : Option Nat := fn_first (vN A 0 0) fun p => decide (fn_us A p)
def fn_put (A : w_A) (i by_ : Nat) : w_A :=
  let e := if vI A 17 i = 0 then fn_nh A else vI A 17 i
  let B := sN (sN (sI (sI (sI (fn_hop A) 15 i (vI A 15 i + 1)) 16 i (fn_nh A)) 17 i e) 12 i (by_ + 1)) 19 i (fn_conn A by_)
  fn_send (fn_page B (fn_hd (if vI A 15 i = 0 then 192 else 208) 258 4 (fn_nh A) e ++ fn_txt 263 (vL A 7 i) ++ fn_me A ++ fn_txt 283 (vL A 9 i) ++ fn_txt 293 (vL A 8 i) ++ fn_num 258 4 ++ fn_num 285 0)) (fn_conn A by_)
def fn_gstep (A : w_A) (p i : Nat) : w_A :=
  if vN A 12 i = p + 1 ∧ vJ A 4 i = 0 then
    match fn_usable A with
    | some b => fn_put A i b
    | none => if vI A 1 p = 2 then A else sJ A 4 i 3002
  else A
def fn_gloop (A : w_A) (p : Nat) : Nat → Nat → w_A
  | 0, _ => A
  | n + 1, i => fn_gloop (fn_gstep A p i) p n (i + 1)
def fn_giveOver (A : w_A) (p : Nat) : w_A := fn_gloop (sI A 3 p (vI A 3 p + 1)) p (vN A 3 0) 0
/-! states -/
def fn_comeUp (A : w_A) (p : Nat) : w_A :=
  if vI A 1 p = 0 then sI (sN A 8 p (vN A 5 0 + 30)) 1 p 1
  else fn_sendWatch (sI (sI (sN A 8 p (vN A 5 0 + 30)) 1 p 4) 4 p 0) p
def fn_leave (A : w_A) (p : Nat) : w_A := fn_giveOver (sN (sI (sI A 1 p 3) 2 p 0) 8 p (vN A 5 0 + 30)) p
def fn_enter (A : w_A) (p : Nat) (s : Int32) : w_A :=
  let B := sN (sI A 0 p s) 7 p (vN A 5 0 + 10)
  if fn_up A p then (if s = 5 ∨ s = 6 then B else fn_leave B p) else (if s = 5 ∨ s = 6 then fn_comeUp B p else B)
def fn_close (A : w_A) (c : Nat) : w_A := sN (sN (sI (sI A 12 c 0) 13 c 0) 11 c 0) 14 c 0
def fn_closeOwn (A : w_A) (p : Nat) : w_A := if vN A 9 p = 0 then A else sN (fn_close A (vN A 9 p)) 9 p 0
def fn_closeCame (A : w_A) (p : Nat) : w_A := if vN A 10 p = 0 then A else sN (fn_close A (vN A 10 p)) 10 p 0
def fn_shut (A : w_A) (p : Nat) : w_A := fn_enter (fn_closeCame (fn_closeOwn A p) p) p 0
def fn_opened (A : w_A) (p : Nat) : w_A := fn_enter (fn_answerCame A p) p 5
/-- a later name -/
def fn_later : List Int32 → List Int32 → Prop
  | [], _ => False
  | _ :: _, [] => True
  | a :: l, b :: m => if a = b then fn_later l m else b < a
def fn_laterD : (l m : List Int32) → Decidable (fn_later l m)
  | [], _ => .isFalse id
  | _ :: _, [] => .isTrue trivial
  | a :: l, b :: m => if h : a = b then
      match fn_laterD l m with
      | .isTrue g => .isTrue (by unfold fn_later; rw [if_pos h]; exact g)
      | .isFalse g => .isFalse (by unfold fn_later; rw [if_pos h]; exact g)
    else if g : b < a then .isTrue (by unfold fn_later; rw [if_neg h]; exact g) else .isFalse (by unfold fn_later; rw [if_neg h]; exact g)
def fn_lt (A : w_A) (p : Nat) : Bool := @decide (fn_later (vL A 1 0) (vL A 2 p)) (fn_laterD _ _)
def fn_choose (A : w_A) (p : Nat) : w_A := if fn_lt A p = true then fn_opened (fn_closeOwn A p) p else fn_enter A p 4
/-- a connection is gone -/
def fn_end (A : w_A) (c : Nat) : w_A :=
  if vN A 11 c = 0 then fn_close A c
  else
    let p := vN A 11 c - 1
    let B := if vI A 13 c = 1 then fn_closeOwn A p else fn_closeCame A p
    if vI A 0 p = 3 then (if vI A 13 c = 1 then fn_opened B p else fn_enter B p 1)
    else if vI A 0 p = 4 then (if vI A 13 c = 1 then fn_opened B p else fn_enter B p 2)
    else fn_shut B p
def fn_spare (A : w_A) : Option Nat := (fn_first 8 fun k => decide (vI A 12 (k + 1) = 0)).map (· + 1)
def fn_fresh (A : w_A) (c : Nat) (s : Int32) (p : Nat) (r : Int32) : w_A := sL (sN (sN (sI (sI A 12 c s) 13 c r) 11 c p) 14 c 0) 3 c []
def fn_begin (A : w_A) (p c : Nat) : w_A := fn_enter (sN (fn_fresh A c 1 (p + 1) 1) 9 p c) p 1
/-! messages that come -/
def u8 (r : Nat → Int32) (c k : Nat) : Int32 := r (600 * c + k) &&& 255
def n4 (r : Nat → Int32) (c k : Nat) : Int32 := ((u8 r c k <<< 24 ||| u8 r c (k + 1) <<< 16) ||| u8 r c (k + 2) <<< 8) ||| u8 r c (k + 3)
def n3 (r : Nat → Int32) (c k : Nat) : Int32 := (u8 r c k <<< 16 ||| u8 r c (k + 1) <<< 8) ||| u8 r c (k + 2)
def un4 (r : Nat → Int32) (c k : Nat) : Int64 := (n4 r c k).toInt64 &&& 4294967295
def n8 (r : Nat → Int32) (c k : Nat) : Int64 := (n4 r c k).toInt64 <<< 32 ||| un4 r c (k + 4)
/-- an attribute's length as a number -/
def nl (r : Nat → Int32) (c k : Nat) : Nat := (n3 r c (k + 5)).toNatClampNeg
/-- what a known one is: 0 not known, 1 a text, 2 a number, 3 units, 4 an address, 5 a group -/
def fn_kind (c : Int32) : Int32 :=
  if c = 263 ∨ c = 264 ∨ c = 296 ∨ c = 283 ∨ c = 293 ∨ c = 269 ∨ c = 444 then 1
  else if c = 268 ∨ c = 258 ∨ c = 266 ∨ c = 278 ∨ c = 273 ∨ c = 285 ∨ c = 416 ∨ c = 415 ∨ c = 436 ∨ c = 450 ∨ c = 448 ∨ c = 422 then 2
  else if c = 421 then 3
  else if c = 257 then 4
  else if c = 443 ∨ c = 437 ∨ c = 431 ∨ c = 446 ∨ c = 279 then 5
  else 0
abbrev fn_fits (k : Int32) (n : Nat) : Prop := (k = 1 → 1 ≤ n ∧ n ≤ 40) ∧ (k = 2 → n = 4) ∧ (k = 3 → n = 8) ∧ (k = 4 → n = 6)
def fn_hs (r : Nat → Int32) (c k : Nat) : Nat := if u8 r c (k + 4) &&& 128 = 0 then 8 else 12
def fn_kd (r : Nat → Int32) (c k : Nat) : Int32 := if u8 r c (k + 4) &&& 128 = 0 then fn_kind (n4 r c k) else 0
/-- goes through attributes: what is wrong, with its code, and the own ones that were seen -/
def fn_walk (r : Nat → Int32) (c : Nat) : Nat → Nat → Nat → Nat → List w_Q → (Int32 × Int32) × List w_Q
  | 0, _, _, _, acc => ((0, 0), acc)
  | f + 1, k, e, d, acc =>
    if e ≤ k then ((0, 0), acc)
    else if e - k < 8 then ((5014, 0), acc)
    else if nl r c k < fn_hs r c k ∨ e - k < nl r c k then ((5014, n4 r c k), acc)
    else if u8 r c (k + 4) &&& 31 ≠ 0 then ((3009, n4 r c k), acc)
    else if fn_kd r c k = 0 then
      (if u8 r c (k + 4) &&& 64 ≠ 0 then ((5001, n4 r c k), acc) else fn_walk r c f (k + (nl r c k + 3) / 4 * 4) e d acc)
    else if ¬ fn_fits (fn_kd r c k) (nl r c k - 8) ∨ (fn_kd r c k = 5 ∧ d = 3) then ((5014, n4 r c k), acc)
    else if fn_kd r c k = 5 ∧ (fn_walk r c f (k + 8) (k + nl r c k) (d + 1) []).1.1 ≠ 0 then ((fn_walk r c f (k + 8) (k + nl r c k) (d + 1) []).1, acc)
    else fn_walk r c f (k + (nl r c k + 3) / 4 * 4) e d (if d = 0 then acc ++ [(n4 r c k, k + 8, nl r c k - 8)] else acc)
def pC (P : w_P) : Nat := P.1
def pL (P : w_P) : Nat := P.2.1
def pF (P : w_P) : Int32 := P.2.2.1
def pM (P : w_P) : Int32 := P.2.2.2.1
def pA_ (P : w_P) : Int32 := P.2.2.2.2.1
def pH (P : w_P) : Int32 := P.2.2.2.2.2.1
def pE (P : w_P) : Int32 := P.2.2.2.2.2.2.1
def pW (P : w_P) : Int32 := P.2.2.2.2.2.2.2.1
def pX (P : w_P) : Int32 := P.2.2.2.2.2.2.2.2.1
def pN (P : w_P) : List w_Q := P.2.2.2.2.2.2.2.2.2
abbrev fn_req (P : w_P) : Prop := ¬ pF P &&& 128 = 0
def fn_find (l : List w_Q) (code : Int32) : Option w_Q := l.find? fun q => decide (q.1 = code)
def fn_many (l : List w_Q) (code : Int32) : Nat := (l.filter fun q => decide (q.1 = code)).length
/-- what a command wants -/
def fn_wants (req : Bool) (cmd : Int32) : List Int32 := if req then (if cmd = 257 then [264, 296, 258] else if cmd = 280 then [264, 296] else if cmd = 282 then [264, 296, 273] else [263, 264, 296, 416, 415]) else [268, 264, 296]
def fn_lack (l : List w_Q) (req : Bool) (ws : List Int32) : Int32 × Int32 :=
  match ws.find? fun w => (fn_find l w).isNone with
  | some w => (5005, w)
  | none => if req then
      match ws.find? fun w => decide (w ≠ 258 ∧ 1 < fn_many l w) with
      | some w => (5009, w)
      | none => (0, 0)
    else (0, 0)
def fn_read (r : Nat → Int32) (c n : Nat) : w_P :=
  let fl := u8 r c 4
  let cmd := n3 r c 5
  let app := n4 r c 8
  let h := n4 r c 12
  let e := n4 r c 16
  let mk := fun (w : Int32 × Int32) (l : List w_Q) => ((c, n, fl, cmd, app, h, e, w.1, w.2, l) : w_P)
  if u8 r c 0 ≠ 1 then mk (5011, 0) []
  else if fl &&& 128 ≠ 0 ∧ ¬ (cmd = 257 ∨ cmd = 280 ∨ cmd = 282 ∨ cmd = 272) then mk (3001, 0) []
  else if fl &&& 128 ≠ 0 ∧ app ≠ (if cmd = 272 then 4 else 0) then mk (3007, 0) []
  else if fl &&& 15 ≠ 0 ∨ (fl &&& 128 ≠ 0 ∧ fl &&& 32 ≠ 0) then mk (3008, 0) []
  else
    let q := fn_walk r c 601 20 n 0 []
    if q.1.1 ≠ 0 then mk q.1 q.2 else mk (fn_lack q.2 (decide (fl &&& 128 ≠ 0)) (fn_wants (decide (fl &&& 128 ≠ 0)) cmd)) q.2
def fn_text (r : Nat → Int32) (c k n : Nat) : List Int32 := (List.range n).map fun j => r (600 * c + (k + j))
def fn_taken (r : Nat → Int32) (P : w_P) (code : Int32) : List Int32 := match fn_find (pN P) code with
  | some q => fn_text r (pC P) q.2.1 q.2.2
  | none => []
def fn_isT (r : Nat → Int32) (P : w_P) (code : Int32) (l : List Int32) : Bool := match fn_find (pN P) code with
  | some q => decide (fn_text r (pC P) q.2.1 q.2.2 = l)
  | none => false
def fn_n (r : Nat → Int32) (P : w_P) (code : Int32) : Int64 := match fn_find (pN P) code with
  | some q => un4 r (pC P) q.2.1
  | none => -1
/-- the first one with a code in a group's octets -/
def fn_ins (r : Nat → Int32) (c : Nat) (code : Int32) : Nat → Nat → Nat → Option (Nat × Nat)
  | 0, _, _ => none
  | f + 1, k, e => if e ≤ k then none
    else if fn_hs r c k = 8 ∧ n4 r c k = code then some (k + 8, nl r c k - 8)
    else fn_ins r c code f (k + (nl r c k + 3) / 4 * 4) e
def fn_inside (r : Nat → Int32) (P : w_P) (group code : Int32) : Option (Nat × Nat) := match fn_find (pN P) group with
  | some q => fn_ins r (pC P) code 601 q.2.1 (q.2.1 + q.2.2)
  | none => none
def fn_units (r : Nat → Int32) (P : w_P) (group : Int32) : Int64 := match fn_inside r P group 421 with
  | some q => n8 r (pC P) q.1
  | none => -1
abbrev fn_right (r : Nat → Int32) (P : w_P) (group : Int32) : Prop := (fn_inside r P group 421).isNone = true ∨ (0 ≤ fn_units r P group ∧ fn_units r P group ≤ 1152921504606846976)
/-- is an answer to the node's own -/
abbrev fn_isA (P : w_P) (cmd h : Int32) : Prop := ¬ fn_req P ∧ pW P = 0 ∧ pM P = cmd ∧ pH P = h ∧ h ≠ 0
/-! answers -/
def fn_ans (A : w_A) (P : w_P) (res : Int32) : List Int32 :=
  fn_hd ((pF P &&& 64) ||| (if 3000 ≤ res ∧ res ≤ 3999 then 32 else 0)) (pM P) (pA_ P) (pH P) (pE P)
    ++ (if pM P = 272 ∧ (fn_find (pN P) 263).isSome = true then fn_txt 263 (fn_taken (vI A 64) P 263) else []) ++ fn_num 268 res ++ fn_me A
abbrev fn_tells (w : Int32) : Prop := w = 5001 ∨ w = 5005 ∨ w = 5009 ∨ w = 5014 ∨ w = 3009
def fn_refuse (A : w_A) (c : Nat) (P : w_P) : w_A := fn_send (fn_page A (fn_ans A P (pW P) ++ (if fn_tells (pW P) then fn_attr 279 8 ++ fn_attr (pX P) 0 else []))) c
def fn_plain (A : w_A) (c : Nat) (P : w_P) (res : Int32) : w_A := fn_send (fn_page A (fn_ans A P res)) c
/-! accounts, sessions -/
def fn_acct (A : w_A) (v : Int64) : Option Nat := fn_first (vN A 1 0) fun a => decide (vJ A 0 a = v)
def fn_dig (r : Nat → Int32) (c : Nat) : Nat → Nat → Int64 → Option Int64
  | 0, _, v => some v
  | n + 1, k, v => if r (600 * c + k) < 48 ∨ 57 < r (600 * c + k) then none else fn_dig r c n (k + 1) (10 * v + (r (600 * c + k)).toInt64 - 48)
def fn_sub (A : w_A) (P : w_P) : Option Nat := match fn_inside (vI A 64) P 443 444 with
  | none => none
  | some q => if 17 < q.2 then none else (fn_dig (vI A 64) (pC P) q.2 q.1 0).bind (fn_acct A)
def fn_sess (A : w_A) (P : w_P) : Option Nat := fn_first (vN A 2 0) fun s => fn_isT (vI A 64) P 263 (vL A 4 s)
def fn_free (A : w_A) (a : Nat) : Int64 := vJ A 1 a - vJ A 2 a
def fn_settle (A : w_A) (s : Nat) (used : Int64) : w_A :=
  let a := vN A 13 s - 1
  let g := vJ A 5 s
  let ch := if g < used then g else used
  sJ (sJ (sJ (sJ A 1 a (vJ A 1 a - ch)) 3 a (vJ A 3 a + ch)) 2 a (vJ A 2 a - g)) 5 s 0
def fn_note (A : w_A) (P : w_P) (p s : Nat) : w_A := sI (sJ (sL (sL A 5 s (fn_taken (vI A 64) P 264)) 6 s (fn_taken (vI A 64) P 296)) 6 s (fn_n (vI A 64) P 415)) 20 s (Int32.ofNat (p + 1))
def fn_grant (A : w_A) (P : w_P) (s : Nat) : w_A :=
  let a := vN A 13 s - 1
  let w := if fn_units (vI A 64) P 437 < 0 then 1000 else fn_units (vI A 64) P 437
  let g := if fn_free A a < w then fn_free A a else w
  sN (sI (sJ (sJ A 5 s g) 2 a (vJ A 2 a + g)) 21 s (Int32.ofNat (vN A 5 0 + 600))) 16 0 (s + 1)
def fn_begins (A : w_A) (P : w_P) (p : Nat) : w_A × Int32 := match fn_sub A P with
  | none => (A, 5030)
  | some a => if (fn_sess A P).isSome = true ∨ vN A 2 0 = 16 then (A, 5012)
    else if fn_free A a = 0 then (A, 4012)
    else
      let s := vN A 2 0
      (fn_grant (fn_note (sJ (sN (sL (sN A 2 0 (s + 1)) 4 s (fn_taken (vI A 64) P 263)) 13 s (a + 1)) 5 s 0) P p s) P s, 2001)
def fn_used (A : w_A) (P : w_P) : Int64 := if fn_units (vI A 64) P 446 < 0 then 0 else fn_units (vI A 64) P 446
def fn_goes (A : w_A) (P : w_P) (p : Nat) : w_A × Int32 := match fn_sess A P with
  | none => (A, 5002)
  | some s => if fn_n (vI A 64) P 415 ≤ vJ A 6 s then (A, 5012)
    else
      let B := fn_note (fn_settle A s (fn_used A P)) P p s
      if 0 < fn_free B (vN A 13 s - 1) then (fn_grant B P s, 2001) else (sI B 21 s (Int32.ofNat (vN A 5 0 + 600)), 4012)
/-- a row with one place taken out -/
def fn_out {α : Type} (n s : Nat) (r : Nat → α) : Nat → α := fun k => if s ≤ k ∧ k + 1 < n then r (k + 1) else r k
def fn_rot {α : Type} (n s : Nat) (r : Nat → α) : Nat → α := fun k => if s ≤ k ∧ k + 1 < n then r (k + 1) else if k + 1 = n then r s else r k
def fn_remove (A : w_A) (s : Nat) : w_A :=
  let n := vN A 2 0
  let f := fun (B : w_A) => tN (tN B 13 (fn_out n s (vN A 13))) 17 (fn_rot n s (vN A 17))
  let g := fun (B : w_A) => tJ (tJ B 5 (fn_out n s (vJ A 5))) 6 (fn_out n s (vJ A 6))
  let h := fun (B : w_A) => tI (tI B 20 (fn_out n s (vI A 20))) 21 (fn_out n s (vI A 21))
  let i := fun (B : w_A) => tL (tL (tL B 4 (fn_out n s (vL A 4))) 5 (fn_out n s (vL A 5))) 6 (fn_out n s (vL A 6))
  sN (f (g (h (i A)))) 2 0 (n - 1)
def fn_ends (A : w_A) (P : w_P) : w_A × Int32 := match fn_sess A P with
  | none => (A, 5002)
  | some s => if fn_n (vI A 64) P 415 ≤ vJ A 6 s then (A, 5012) else (fn_remove (fn_settle A s (fn_used A P)) s, 2001)
def fn_event (A : w_A) (P : w_P) (act : Int32) : w_A × Int32 := match fn_sub A P with
  | none => (A, 5030)
  | some a =>
    let w := if fn_units (vI A 64) P 437 < 0 then 0 else fn_units (vI A 64) P 437
    if act = 2 then (sI A 19 0 (b2i (fn_free A a < w)), 2001)
    else if act = 0 then (if fn_free A a < w then (A, 4012) else (sJ (sJ A 1 a (vJ A 1 a - w)) 3 a (vJ A 3 a + w), 2001))
    else if 1152921504606846976 - vJ A 1 a < w then (A, 5012)
    else (sJ (sJ A 1 a (vJ A 1 a + w)) 3 a (vJ A 3 a - w), 2001)
def fn_decide (A : w_A) (P : w_P) (p : Nat) : w_A × Int32 :=
  let t := fn_n (vI A 64) P 416
  let act := fn_n (vI A 64) P 436
  if t < 1 ∨ 4 < t ∨ ¬ fn_right (vI A 64) P 437 ∨ ¬ fn_right (vI A 64) P 446 ∨ (t = 4 ∧ ¬ (0 ≤ act ∧ act ≤ 2)) then (A, 5004)
  else if t = 1 then fn_begins A P p
  else if t = 2 then fn_goes A P p
  else if t = 3 then fn_ends A P
  else fn_event A P act.toInt32
/-! kept answers -/
def fn_drop1 (A : w_A) : w_A :=
  let n := vN A 4 0
  let f := fun (B : w_A) => tN (tN B 15 (fn_out n 0 (vN A 15))) 18 (fn_rot n 0 (vN A 18))
  let i := fun (B : w_A) => tL (tL B 10 (fn_out n 0 (vL A 10))) 11 (fn_out n 0 (vL A 11))
  sN (f (tI (i A) 18 (fn_out n 0 (vI A 18)))) 4 0 (n - 1)
def fn_stl (A : w_A) : Nat → w_A
  | 0 => A
  | f + 1 => if 0 < vN A 4 0 ∧ vN A 15 0 + 240 ≤ vN A 5 0 then fn_stl (fn_drop1 A) f else A
def fn_stale (A : w_A) : w_A := fn_stl A (vN A 4 0)
def fn_kept (A : w_A) (P : w_P) : Option Nat := fn_first (vN A 4 0) fun k => decide (vI A 18 k = pE P) && fn_isT (vI A 64) P 264 (vL A 11 k)
def fn_keep (A : w_A) (P : w_P) : w_A :=
  let B := if vN A 4 0 = 32 then fn_drop1 A else A
  let k := vN B 4 0
  sN (sN (sI (sL (sL B 11 k (fn_taken (vI A 64) P 264)) 10 k (vL A 12 0)) 18 k (pE P)) 15 k (vN A 5 0)) 4 0 (k + 1)
def fn_again (l : List Int32) (h : Int32) : List Int32 := l.take 12 ++ b4 h ++ l.drop 16
def fn_credit (A : w_A) (c p : Nat) (P : w_P) : w_A :=
  let B := fn_stale A
  match fn_kept B P with
  | some k => fn_send (fn_page B (fn_again (vL B 10 k) (pH P))) c
  | none =>
    let r := fn_decide (sI (sN B 16 0 0) 19 0 (-1)) P p
    let D := r.1
    let l := fn_ans D P r.2 ++ fn_num 258 4 ++ fn_num 416 (fn_n (vI A 64) P 416).toInt32 ++ fn_num 415 (fn_n (vI A 64) P 415).toInt32
      ++ (if vN D 16 0 = 0 then [] else (fn_attr 431 16 ++ fn_attr 421 8 ++ b4 (vJ D 5 (vN D 16 0 - 1) >>> 32).toInt32 ++ b4 (vJ D 5 (vN D 16 0 - 1)).toInt32) ++ fn_num 448 600)
      ++ (if 0 ≤ vI D 19 0 then fn_num 422 (vI D 19 0) else [])
    sN (fn_send (fn_keep (fn_page D l) P) c) 16 0 99
/-! what is done with a message -/
def fn_askAns (A : w_A) (p : Nat) (P : w_P) : w_A := match fn_first (vN A 3 0) fun i => decide (vN A 12 i = p + 1 ∧ vJ A 4 i = 0 ∧ fn_isA P 258 (vI A 16 i)) with
  | some i => sJ A 4 i (if fn_n (vI A 64) P 268 < 1 then 1 else fn_n (vI A 64) P 268)
  | none => fn_lost A
def fn_work (A : w_A) (c p : Nat) (P : w_P) : w_A :=
  if ¬ fn_req P then fn_askAns A p P
  else if pW P ≠ 0 then fn_refuse A c P
  else if pM P = 257 then fn_plain A c P 5012
  else if pM P = 280 then fn_send (fn_page A (fn_ans A P 2001 ++ fn_num 278 1)) c
  else if pM P = 282 then fn_enter (sI (fn_plain A c P 2001) 7 p 0) p 7
  else fn_credit A c p P
def fn_heard (A : w_A) (c p : Nat) (P : w_P) : w_A :=
  if vI A 2 p ≠ 0 ∧ fn_isA P 280 (vI A 6 p) then
    let B := sI A 2 p 0
    if vI A 1 p = 1 ∨ vI A 1 p = 2 then sI (sN B 8 p (vN A 5 0 + 30)) 1 p 1
    else if vI A 4 p + 1 = 3 then sI (sI B 4 p 3) 1 p 1 else sI B 4 p (vI A 4 p + 1)
  else if vI A 1 p = 1 ∨ vI A 1 p = 2 then fn_work (sI (sN A 8 p (vN A 5 0 + 30)) 1 p 1) c p P
  else if ¬ fn_req P ∨ (pM P ≠ 280 ∧ pM P ≠ 282) then fn_lost A
  else fn_work A c p P
def fn_asking (A : w_A) (p : Nat) (P : w_P) : w_A :=
  if fn_isA P 257 (vI A 5 p) ∧ fn_n (vI A 64) P 268 = 2001 ∧ fn_isT (vI A 64) P 264 (vL A 2 p) = true then fn_enter (fn_closeCame A p) p 6
  else fn_end (fn_lost A) (vN A 9 p)
def fn_last (n : Nat) (f : Nat → Bool) : Option Nat := (List.range n).reverse.find? f
def fn_speaks (r : Nat → Int32) (P : w_P) : Bool := (pN P).any fun q => decide (q.1 = 258 ∧ (n4 r (pC P) q.2.1 = 4 ∨ n4 r (pC P) q.2.1 = -1))
def fn_strange (A : w_A) (c : Nat) (P : w_P) : w_A :=
  if fn_req P ∧ pW P ≠ 0 then fn_close (fn_refuse A c P) c
  else if ¬ fn_req P ∨ pM P ≠ 257 then fn_close (fn_lost A) c
  else match fn_last (vN A 0 0) fun k => fn_isT (vI A 64) P 264 (vL A 2 k) with
    | none => fn_close (fn_plain A c P 3010) c
    | some p => if fn_speaks (vI A 64) P = false then fn_close (fn_plain A c P 5010) c
      else if 2 < vI A 0 p then fn_close (fn_plain A c P 3004) c
      else
        let B := sN (sN (sI (sI (sI (sI A 13 c 2) 8 p (pF P)) 9 p (pH P)) 10 p (pE P)) 11 c (p + 1)) 10 p c
        if vI A 0 p = 0 then fn_opened B p else if vI A 0 p = 1 then fn_enter B p 3 else fn_choose B p
def fn_ending (A : w_A) (p : Nat) (P : w_P) : w_A := if fn_isA P 282 (vI A 7 p) then fn_shut A p else fn_lost A
def fn_hear (A : w_A) (c : Nat) (P : w_P) : w_A :=
  if vN A 11 c = 0 then fn_strange A c P
  else
    let p := vN A 11 c - 1
    if vI A 0 p = 5 ∨ vI A 0 p = 6 then fn_heard A c p P
    else if vI A 0 p = 7 then fn_ending A p P
    else if (vI A 0 p = 2 ∨ vI A 0 p = 4) ∧ vI A 13 c = 1 then fn_asking A p P
    else fn_lost A
/-! octets that come -/
def fn_byte (a b c d : Int64) (k : Nat) : Int32 := ((if k < 8 then a else if k < 16 then b else if k < 24 then c else d) >>> (Int32.toInt64 (56 - 8 * Int32.ofNat (k % 8)) &&& 63)).toInt32.toInt8.toInt32
def fn_bad (n : Int32) : Prop := n < 20 ∨ 600 < n ∨ ¬ n.toNatClampNeg % 4 = 0
/-- one octet: the state behind it, and how many messages it made whole -/
def fn_octet (A : w_A) (c : Nat) (x : Int32) : w_A × Nat :=
  let m := vN A 14 c
  let B := sN (sI A 64 (600 * c + m) x) 14 c (m + 1)
  if m + 1 < 4 then (B, 0)
  else if n3 (vI B 64) c 1 < 20 ∨ 600 < n3 (vI B 64) c 1 ∨ (n3 (vI B 64) c 1).toNatClampNeg % 4 ≠ 0 then (fn_end B c, 0)
  else if n3 (vI B 64) c 1 = Int32.ofNat (m + 1) then
    let D := sN B 14 c 0
    (sP (fn_hear (sP D (some (fn_read (vI D 64) c (m + 1)))) c (fn_read (vI D 64) c (m + 1))) none, 1)
  else (B, 0)
def fn_feed (c : Nat) (x : Nat → Int32) (n : Nat) : Nat → w_A → Nat → w_A × Nat
  | 0, A, done => (A, done)
  | f + 1, A, done => if vI A 12 c = 2 then
      fn_feed c x n f (fn_octet A c (x (n - (f + 1)))).1 (done + (fn_octet A c (x (n - (f + 1)))).2)
    else (A, done)
/-! the clock -/
def fn_ring (A : w_A) (p : Nat) : w_A :=
  let B := sN A 8 p (vN A 5 0 + 30)
  if vI A 1 p = 1 then (if vI A 2 p = 0 then fn_sendWatch B p else fn_giveOver (sI B 1 p 2) p)
  else if vI A 1 p = 2 then fn_shut B p
  else if vI A 1 p = 4 then (if vI A 2 p = 0 then fn_sendWatch B p else fn_shut B p)
  else if vI A 11 p ≠ 0 ∧ vI A 0 p = 0 then
    match fn_spare B with
    | some c => fn_begin B p c
    | none => B
  else B
abbrev fn_given (A : w_A) (p : Nat) : Prop := vI A 0 p ≠ 0 ∧ ¬ fn_up A p
/-- a peer at a second: the state behind it, how much was done -/
def fn_pt (A : w_A) (p : Nat) : w_A × Nat :=
  let r := if fn_given A p ∧ vN A 7 p = vN A 5 0 then (fn_shut A p, 1) else (A, 0)
  if vN r.1 8 p = vN A 5 0 then (fn_ring r.1 p, r.2 + 1) else r
def fn_pts : Nat → Nat → w_A → Nat → w_A × Nat
  | 0, _, A, d => (A, d)
  | f + 1, p, A, d => fn_pts f (p + 1) (fn_pt A p).1 (d + (fn_pt A p).2)
def fn_sts : Nat → Nat → w_A → Nat → w_A × Nat
  | 0, _, A, d => (A, d)
  | f + 1, s, A, d => if vI A 21 s = Int32.ofNat (vN A 5 0) then fn_sts f s (fn_remove (fn_settle A s 0) s) (d + 1) else fn_sts f (s + 1) A d
def fn_sec (A : w_A) : w_A × Nat :=
  let B := sN A 5 0 (vN A 5 0 + 1)
  let r := fn_pts (vN B 0 0) 0 B 0
  fn_sts (vN r.1 2 0) 0 r.1 r.2
def fn_tick : Nat → w_A → Nat → w_A × Nat
  | 0, A, d => (A, d)
  | f + 1, A, d => fn_tick f (fn_sec A).1 (d + (fn_sec A).2)
