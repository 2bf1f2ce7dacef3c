/-! WHAT THE SYSTEM COMPUTES, in plain words: a rope as its row of numbers R (the reference's), two expressions as codes, a state as its row of numbers S (the reference's: hour, pegs, wet, stains, pegs held as bits, grips). -/
set_option maxRecDepth 100000
def up (S : Nat → Nat) (i v : Nat) : Nat → Nat := fun j => if j = i then v else S j
theorem up_eq {S : Nat → Nat} {i v j : Nat} (h : j = i) : up S i v j = v := if_pos h
theorem up_ne {S : Nat → Nat} {i v j : Nat} (h : j ≠ i) : up S i v j = S j := if_neg h
def p_kd (R : Nat → Nat) (c : Nat) : Nat := R (8 + (4 * c + 0))
def p_wd (R : Nat → Nat) (c : Nat) : Nat := R (8 + (4 * c + 1))
def p_wt (R : Nat → Nat) (c : Nat) : Nat := R (8 + (4 * c + 2))
def p_wo (R : Nat → Nat) (c : Nat) : Nat := R (8 + (4 * c + 3))
def p_nd (R : Nat → Nat) (c : Nat) : Nat := if p_kd R c = 1 then 4 else 2
def p_law (R S : Nat → Nat) (c : Nat) : Bool := decide (pc (S (14 + c)) = p_nd R c) && decide (S (8 + c) < 3)
def p_laws (R S : Nat → Nat) : Nat := qk (p_law R S) (R 0)
def p_worth (R : Nat → Nat) (x : Nat) : Nat := sm (fun c => if x.testBit c then p_wo R c else 0) (R 0)
def p_room (R : Nat → Nat) (c k : Nat) : Nat := if k = 1 then p_wd R c / 2 + 1 else p_wd R c
def p_roomOf (R S : Nat → Nat) (c : Nat) : Nat := if S (14 + c) = 0 then 0 else p_room R c (pc (S (14 + c)))
def p_leftN (R S : Nat → Nat) : Nat → Int32
  | 0 => n32 (R 3)
  | c + 1 => p_leftN R S c - n32 (p_roomOf R S c)
def p_left (R S : Nat → Nat) : Int32 := p_leftN R S (R 0)
def p_wind (R : Nat → Nat) (h : Nat) : Nat := R (76 + h % R 2)
/-- a peg's cloth: the last one below n that holds it -/
def p_byN (S : Nat → Nat) (p : Nat) : Nat → Int32
  | 0 => -n32 1
  | c + 1 => if (S (14 + c)).testBit p then n32 c else p_byN S p c
def p_isBy (S : Nat → Nat) (p n : Nat) : Bool := decide (∃ c, c < n ∧ (S (14 + c)).testBit p = true)
def p_free (R S : Nat → Nat) : Nat := qk (fun p => decide (0 < S (20 + p)) && !p_isBy S p (R 0)) (S 1)
def p_may (R S : Nat → Nat) (c x : Nat) : Bool := decide (S (14 + c) = 0) && (decide (nd x (p_free R S) = 0) && (decide (pc x = p_nd R c ∨ pc x = 1) && decide (n32 (p_room R c (pc x)) ≤ p_left R S)))
def p_grips (S : Nat → Nat) (x : Nat) : Nat := sm (fun p => if x.testBit p then S (20 + p) else 0) 8
/-! expressions: codes (op, arg), the pile as a list, its top first -/
def b2 (c : Bool) : Int32 := if c then n32 1 else n32 0
def p_both (k : Nat) (a b : Int32) : Int32 := if k = 4 then a + b else if k = 5 then a - b else if k = 6 then a * b else if k = 7 then b2 (decide (a < b)) else if k = 8 then b2 (decide (a = b)) else if k = 9 then b2 (decide (a ≠ n32 0) && decide (b ≠ n32 0)) else b2 (decide (a ≠ n32 0) || decide (b ≠ n32 0))
def p_st (f : Nat → Int32) (q : Nat × Nat) (st : List Int32) : List Int32 :=
  if q.1 = 1 then n32 q.2 :: st else if q.1 = 2 then f q.2 :: st else match st with
  | [] => []
  | x :: s => if q.1 = 3 then b2 (decide (x = n32 0)) :: s else match s with
    | [] => []
    | y :: s2 => p_both q.1 y x :: s2
def p_run (f : Nat → Int32) : List (Nat × Nat) → List Int32 → List Int32
  | [], st => st
  | q :: l, st => p_run f l (p_st f q st)
/-- a code that one may run: it needs no more than there is, and leaves k -/
def p_okN : List (Nat × Nat) → Nat → Option Nat
  | [], n => some n
  | q :: l, n => if q.1 = 1 then p_okN l (n + 1) else if q.1 = 2 then (if q.2 < 3 then p_okN l (n + 1) else none) else if q.1 = 3 then (if 1 ≤ n then p_okN l n else none) else if 4 ≤ q.1 ∧ q.1 ≤ 10 ∧ 2 ≤ n then p_okN l (n - 1) else none
def p_val (f : Nat → Int32) (l : List (Nat × Nat)) : Int32 := (p_run f l []).headD (n32 0)
/-- a value brought between 0 and the most -/
def p_cl (most : Nat) (v : Int32) : Nat := if v < n32 0 then 0 else if n32 most < v then most else v.toNatClampNeg
def p_mass (R : Nat → Nat) (c wet : Nat) : Nat := p_wt R c + if p_kd R c = 3 then 2 * wet else wet
def p_f (R : Nat → Nat) (c wet wind : Nat) (i : Nat) : Int32 := if i = 0 then n32 wind else if i = 1 then n32 (p_mass R c wet) else n32 (p_wd R c)
def p_pull (R : Nat → Nat) (cp : Option (List (Nat × Nat))) (c wet wind : Nat) : Nat :=
  let u := p_cl 99 (match cp with | none => n32 wind + n32 (p_wd R c) - n32 (p_mass R c wet) | some l => p_val (p_f R c wet wind) l)
  if p_kd R c = 2 then 2 * u else u
def p_dried (R : Nat → Nat) (cd : Option (List (Nat × Nat))) (c wet wind : Nat) : Nat :=
  wet - p_cl 9 (match cd with | none => n32 wind | some l => p_val (p_f R c wet wind) l)
theorem p_cl_le (most : Nat) (v : Int32) : p_cl most v ≤ most := by
  unfold p_cl
  by_cases h1 : v < n32 0
  · rw [if_pos h1]
    exact Nat.zero_le _
  · rw [if_neg h1]
    by_cases h2 : n32 most < v
    · rw [if_pos h2]
      exact Nat.le_refl _
    · rw [if_neg h2]
      by_cases hm : most < 2147483648
      · rw [Int32.lt_iff_toInt_lt, n32_ti hm] at h2
        rw [Int32.lt_iff_toInt_lt, n32_ti (by decide)] at h1
        have : (v.toNatClampNeg : Int) = v.toInt := Int32.cast_toNatClampNeg v (by rw [Int32.le_iff_toInt_le]; show (0 : Int) ≤ _; omega)
        omega
      · have := Int32.toNatClampNeg_lt v
        omega
theorem p_pull_le (R : Nat → Nat) (cp : Option (List (Nat × Nat))) (c wet wind : Nat) : p_pull R cp c wet wind ≤ 198 := by
  unfold p_pull
  dsimp only
  have := fun v => p_cl_le 99 v
  split
  · have h := this (match cp with | none => n32 wind + n32 (p_wd R c) - n32 (p_mass R c wet) | some l => p_val (p_f R c wet wind) l)
    omega
  · have h := this (match cp with | none => n32 wind + n32 (p_wd R c) - n32 (p_mass R c wet) | some l => p_val (p_f R c wet wind) l)
    omega
theorem p_dried_le (R : Nat → Nat) (cd : Option (List (Nat × Nat))) (c wet wind : Nat) : p_dried R cd c wet wind ≤ wet := Nat.sub_le _ _
/-! an hour -/
def p_fall (S : Nat → Nat) (c : Nat) : Nat → Nat := up (up (up S (14 + c) 0) (2 + c) 9) (8 + c) (min 9 (S (8 + c) + 1))
def p_loose (S : Nat → Nat) (x : Nat) : Nat → Nat := fun j => if 20 ≤ j ∧ j < 28 ∧ x.testBit (j - 20) = true then S j - 1 else S j
def p_kept (S : Nat → Nat) (x : Nat) : Nat := qk (fun p => x.testBit p && decide (0 < S (20 + p))) 8
/-- the hour pulls at a cloth: the state behind it, whether it falls -/
def p_pl (R : Nat → Nat) (cp : Option (List (Nat × Nat))) (S : Nat → Nat) (c w : Nat) : (Nat → Nat) × Bool :=
  let x := S (14 + c)
  let v := p_pull R cp c (S (2 + c)) w
  let g := p_grips S x
  if 2 * v ≤ g then (S, false)
  else if v ≤ g ∧ p_kept (p_loose S x) x ≠ 0 then (up (p_loose S x) (14 + c) (p_kept (p_loose S x) x), false)
  else (p_fall (p_loose S x) c, true)
def p_dr (R : Nat → Nat) (cd : Option (List (Nat × Nat))) (S : Nat → Nat) (c w : Nat) : Nat → Nat :=
  if S (14 + c) = 0 then S else up S (2 + c) (p_dried R cd c (S (2 + c)) w)
def p_plN (R : Nat → Nat) (cp : Option (List (Nat × Nat))) (S : Nat → Nat) (w : Nat) : Nat → (Nat → Nat) × Nat
  | 0 => (S, 0)
  | c + 1 => let q := p_plN R cp S w c
    if q.1 (14 + c) = 0 then q else ((p_pl R cp q.1 c w).1, q.2 + if (p_pl R cp q.1 c w).2 then 1 else 0)
def p_drN (R : Nat → Nat) (cd : Option (List (Nat × Nat))) (S : Nat → Nat) (w : Nat) : Nat → Nat → Nat
  | 0 => S
  | c + 1 => p_dr R cd (p_drN R cd S w c) c w
/-- an hour with so much more wind: the state behind it, how many fall -/
def p_pass (R : Nat → Nat) (cp cd : Option (List (Nat × Nat))) (S : Nat → Nat) (more : Nat) : (Nat → Nat) × Nat :=
  let w := p_wind R (S 0) + more
  let q := p_plN R cp S w (R 0)
  let S2 := p_drN R cd q.1 w (R 0)
  (up S2 0 (S2 0 + 1), q.2)
/-! what is true of ropes and states -/
def okR (R : Nat → Nat) : Prop := R 0 ≤ 6 ∧ R 1 ≤ 8 ∧ 1 ≤ R 2 ∧ R 2 ≤ 12 ∧ R 3 ≤ 60 ∧ R 4 ≤ 10 ∧ ∀ x, R x ≤ 1000
def okS (R : Nat → Nat) (h : Nat) (S : Nat → Nat) : Prop := S 0 ≤ h ∧ S 1 ≤ 8 ∧ (∀ c, c < 6 → S (2 + c) ≤ 9 ∧ S (8 + c) ≤ 9 ∧ S (14 + c) < 256) ∧ (∀ p, p < 8 → S (20 + p) ≤ 9) ∧ ∀ c, R 0 ≤ c → c < 6 → S (14 + c) = 0
