/-! further rows of mm_V: names for values, switches, an answer's shape -/
set_option maxRecDepth 100000
abbrev mm_wrI (K : mm_K) (P : mm_P) (nx sl : Nat) : Int32 → mm_O := fun r => (some (.int r), K, P, nx, sl)
abbrev mm_wrL (K : mm_K) (P : mm_P) (nx sl : Nat) : Int64 → mm_O := fun r => (some (.long r), K, P, nx, sl)
abbrev mm_wrR (K : mm_K) (P : mm_P) (nx sl : Nat) : Nat → mm_O := fun r => (some (.ref r), K, P, nx, sl)
abbrev mm_wwI (K : mm_K) (nx sl : Nat) : Int32 × mm_P → mm_O := fun r => (some (.int r.1), K, r.2, nx, sl)
abbrev mm_wwL (K : mm_K) (nx sl : Nat) : Int64 × mm_P → mm_O := fun r => (some (.long r.1), K, r.2, nx, sl)
abbrev mm_wwR (K : mm_K) (nx sl : Nat) : Nat × mm_P → mm_O := fun r => (some (.ref r.1), K, r.2, nx, sl)
abbrev mm_wwV (K : mm_K) (nx sl : Nat) : mm_P → mm_O := fun r => (none, K, r, nx, sl)
theorem mm_nz {x : Int32} (h : x &&& 1 = x) : narrow .boolean (.int x) = .int x := by
  show Value.int (x &&& 1) = _
  rw [h]
theorem mm_fn {x : Int32} : ∀ c ∈ ([] : List Int32), ¬ x = c := fun _ h => nomatch h
theorem mm_fa {x c : Int32} {cs : List Int32} (h : ¬ x = c) (t : ∀ c ∈ cs, ¬ x = c) : ∀ d ∈ c :: cs, ¬ x = d := fun d hd => (List.mem_cons.mp hd).elim (fun e => by rw [e]; exact h) (t d)
section MORE
variable {α : Type} {E : mm_E} {own : String} {cc : ByteArray} {nL : Nat} {ret : Option FieldType} {FR LC : Nat} {w : α → mm_O} {pc : Nat} {ls : List (Option Value)} {st : List Value} {K : mm_K} {P : mm_P} {nx sl : Nat} {f : Option α}
theorem r_none : mm_V E w pc ls st K P nx sl none := fun _ h => by cases h
theorem r_ltI {x : Int32} {g : Int32 → Option α} (k : ∀ y : Int32, mm_V E w pc ls (.int y :: st) K P nx sl (g y)) : mm_V E w pc ls (.int x :: st) K P nx sl (mm_lt x g) := k x
theorem r_ltL {x : Int64} {g : Int64 → Option α} (k : ∀ y : Int64, mm_V E w pc ls (.long y :: st) K P nx sl (g y)) : mm_V E w pc ls (.long x :: st) K P nx sl (mm_lt x g) := k x
theorem r_ltP {g : mm_P → Option α} (k : ∀ Q : mm_P, mm_V E w pc ls st K Q nx sl (g Q)) : mm_V E w pc ls st K P nx sl (mm_lt P g) := k P
theorem r_if {c : Prop} [Decidable c] {g : Option α} (kt : c → mm_V E w pc ls st K P nx sl f) (kf : ¬ c → mm_V E w pc ls st K P nx sl g) : mm_V E w pc ls st K P nx sl (if c then f else g) := by
  by_cases hc : c
  · rw [if_pos hc]; exact kt hc
  · rw [if_neg hc]; exact kf hc
theorem r_tableC (C : mm_Cx E own cc nL ret FR LC) {dflt lo hi : Int} {offs : Array Int} {len : Nat} {x c : Int32} {off : Int} {tgt : Nat} (d : decode cc pc = .ok (.tableswitch dflt lo hi offs, len)) (hx : x = c) (h1 : ¬ c.toInt < lo) (h2 : ¬ hi < c.toInt) (ho : offs[(c.toInt - lo).toNat]? = some off) (ht : (pc : Int) + off = (tgt : Int)) (k : mm_V E w tgt ls st K P nx sl f) : mm_V E w pc ls (.int x :: st) K P nx sl f := by
  subst hx
  exact r_tableIn C d h1 h2 ho ht k
theorem r_tableD (C : mm_Cx E own cc nL ret FR LC) {dflt lo hi : Int} {offs : Array Int} {len : Nat} {x : Int32} {tgt n : Nat} {cs : List Int32} (d : decode cc pc = .ok (.tableswitch dflt lo hi offs, len)) (hcs : ∀ c ∈ cs, ¬ x = c) (hall : (List.range n).all (fun i => cs.contains (Int32.ofInt (lo + (i : Nat)))) = true) (hn : hi < lo + (n : Nat)) (ht : (pc : Int) + dflt = (tgt : Int)) (k : mm_V E w tgt ls st K P nx sl f) : mm_V E w pc ls (.int x :: st) K P nx sl f := by
  refine r_tableOut C d ?_ ht k
  by_cases h1 : x.toInt < lo
  · exact Or.inl h1
  · right
    rcases Int.lt_or_le hi x.toInt with h2 | h2
    · exact h2
    · exfalso
      have h3 : (x.toInt - lo).toNat < n := by omega
      have h4 := List.all_eq_true.mp hall _ (List.mem_range.mpr h3)
      have h5 : lo + (((x.toInt - lo).toNat : Nat) : Int) = x.toInt := by omega
      rw [h5, Int32.ofInt_toInt] at h4
      exact hcs x (List.contains_iff_mem.mp h4) rfl
end MORE
