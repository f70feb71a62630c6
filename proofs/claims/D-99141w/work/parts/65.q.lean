/-! ===== sums and tests: codes, what they tell ===== -/
def zclip (v : Int) : Int := if 1000000 < v then 1000000 else if v < -1000000 then -1000000 else v
def zfl (a b : Int) : Int := if b = 0 then 0 else if a.tmod b ≠ 0 ∧ ((a < 0 ∧ ¬ b < 0) ∨ (¬ a < 0 ∧ b < 0)) then a.tdiv b - 1 else a.tdiv b
def zjo (c a b : Int) : Int := if c = 1 then zclip (a + b) else if c = 2 then zclip (a - b) else if c = 3 then zclip (a * b) else if c = 4 then zfl a b else if c = 5 then (if a < b then a else b) else if c = 6 then (if b < a then a else b) else if c = 7 then (if a < b then 1 else 0) else if c = 8 then (if b < a then 1 else 0) else if c = 9 then (if a = b then 1 else 0) else if c = 10 then a * b else if 0 < a + b then 1 else 0
/-- one code on a pile (the last put first) -/
def zst (pt of : Int → Int) (c : Int) (st : List Int) : List Int :=
  if 1000 ≤ c then (c - 1000) :: st
  else if 60 ≤ c then (match st with | x :: st => zclip (of x) :: st | [] => [])
  else if 40 ≤ c then zclip (pt (c - 40)) :: st
  else if c = 13 then 1 :: st
  else if c = 12 then (match st with | x :: st => (1 - x) :: st | [] => [])
  else match st with | b :: a :: st => zjo c a b :: st | _ => []
def zrun (pt of : Int → Int) : List Int → List Int → List Int
  | [], st => st
  | c :: cs, st => zrun pt of cs (zst pt of c st)
/-- kinds of what lies on the pile: true a test, false a sum; hm: in the harm of a board -/
def zty (hm : Bool) (c : Int) (ts : List Bool) : Option (List Bool) :=
  if 1000 ≤ c then (if c ≤ 10999 then some (false :: ts) else none)
  else if 60 ≤ c then (if c = 60 ∧ hm = false then (match ts with | false :: ts => some (false :: ts) | _ => none) else none)
  else if 40 ≤ c then (if (hm = true ∧ c ≤ 43) ∨ (hm = false ∧ 43 ≤ c ∧ c ≤ 50) then some (false :: ts) else none)
  else if hm = true ∧ 6 < c then none
  else if c = 13 then some (true :: ts)
  else if c = 12 then (match ts with | true :: ts => some (true :: ts) | _ => none)
  else if 1 ≤ c ∧ c ≤ 6 then (match ts with | false :: false :: ts => some (false :: ts) | _ => none)
  else if 7 ≤ c ∧ c ≤ 9 then (match ts with | false :: false :: ts => some (true :: ts) | _ => none)
  else if 10 ≤ c ∧ c ≤ 11 then (match ts with | true :: true :: ts => some (true :: ts) | _ => none)
  else none
def ztl (hm : Bool) : List Int → List Bool → Option (List Bool)
  | [], ts => some ts
  | c :: cs, ts => match zty hm c ts with
    | some ts => ztl hm cs ts
    | none => none
/-- a pile that is of such kinds -/
def zfit : List Int → List Bool → Prop
  | [], [] => True
  | v :: st, b :: ts => (if b = true then v = 0 ∨ v = 1 else -1000000 ≤ v ∧ v ≤ 1000000) ∧ zfit st ts
  | _, _ => False
section QS
variable {a b c v : Int} {pt of : Int → Int} {hm : Bool}
theorem zbd {i n : Int} (h1 : 0 ≤ i) (h2 : i < n) : (0 ≤ i ∧ i < n) = True := by simp [h1, h2]
theorem lst2_0 {tl : ALoc} {v : AV} : lst2 tl 0 v = some v :: none :: tl.tail.tail := by
  match tl with
  | [] => rfl
  | [_] => rfl
  | _ :: _ :: _ => rfl
theorem zclip_b : -1000000 ≤ zclip v ∧ zclip v ≤ 1000000 := by
  unfold zclip; split
  · omega
  · split <;> omega
theorem zclip_i (h1 : -1000000 ≤ v) (h2 : v ≤ 1000000) : zclip v = v := by
  unfold zclip; rw [if_neg (by omega), if_neg (by omega)]
theorem zfl_b (h1 : -1000000 ≤ a) (h2 : a ≤ 1000000) : -1000000 ≤ zfl a b ∧ zfl a b ≤ 1000000 := by
  unfold zfl
  by_cases e : b = 0
  · rw [if_pos e]; omega
  · rw [if_neg e]
    have e1 : (a.tdiv b).natAbs = a.natAbs / b.natAbs := Int.natAbs_tdiv a b
    have e2 : a.natAbs / b.natAbs ≤ a.natAbs := Nat.div_le_self _ _
    split
    · rename_i g
      have g1 := g.1
      have ha : a.natAbs ≠ 0 := fun q => g1 (by rw [Int.natAbs_eq_zero.1 q, Int.zero_tmod])
      have hb : 2 ≤ b.natAbs := by
        rcases Nat.lt_or_ge b.natAbs 2 with q | q
        · exfalso
          have : b.natAbs = 1 := by omega
          apply g1
          have : (a.tmod b).natAbs = 0 := by rw [Int.natAbs_tmod, this, Nat.mod_one]
          omega
        · exact q
      have e3 : a.natAbs / b.natAbs ≤ a.natAbs / 2 := Nat.div_le_div_left hb (by decide)
      omega
    · omega
theorem zjo_b (h1 : -1000000 ≤ a ∧ a ≤ 1000000) (h2 : -1000000 ≤ b ∧ b ≤ 1000000) (hc : 1 ≤ c ∧ c ≤ 6) : -1000000 ≤ zjo c a b ∧ zjo c a b ≤ 1000000 := by
  have : c = 1 ∨ c = 2 ∨ c = 3 ∨ c = 4 ∨ c = 5 ∨ c = 6 := by omega
  rcases this with e | e | e | e | e | e <;> subst e <;> simp only [zjo, Int.reduceEq, if_true, if_false]
  · exact zclip_b
  · exact zclip_b
  · exact zclip_b
  · exact zfl_b h1.1 h1.2
  · split <;> omega
  · split <;> omega
theorem zjo_t (hc : 7 ≤ c ∧ c ≤ 9) : zjo c a b = 0 ∨ zjo c a b = 1 := by
  have : c = 7 ∨ c = 8 ∨ c = 9 := by omega
  rcases this with e | e | e <;> subst e
  · show (if a < b then (1 : Int) else 0) = 0 ∨ (if a < b then (1 : Int) else 0) = 1
    split <;> simp
  · show (if b < a then (1 : Int) else 0) = 0 ∨ (if b < a then (1 : Int) else 0) = 1
    split <;> simp
  · show (if a = b then (1 : Int) else 0) = 0 ∨ (if a = b then (1 : Int) else 0) = 1
    split <;> simp
theorem zjo_u (hc : 10 ≤ c ∧ c ≤ 11) (ha : a = 0 ∨ a = 1) (hb : b = 0 ∨ b = 1) : zjo c a b = 0 ∨ zjo c a b = 1 := by
  have : c = 10 ∨ c = 11 := by omega
  rcases this with e | e <;> subst e <;> rcases ha with e | e <;> subst e <;> rcases hb with e | e <;> subst e <;> simp [zjo]
/-- what is needed to take one code -/
theorem zst_fit {st : List Int} {ts ts' : List Bool} (hf : zfit st ts) (ht : zty hm c ts = some ts') : zfit (zst pt of c st) ts' := by
  unfold zty at ht
  unfold zst
  by_cases e1 : 1000 ≤ c
  · rw [if_pos e1] at ht ⊢
    split at ht
    · injection ht with ht; subst ht
      exact ⟨by rw [if_neg (by decide)]; omega, hf⟩
    · cases ht
  · rw [if_neg e1] at ht ⊢
    by_cases e2 : 60 ≤ c
    · rw [if_pos e2] at ht ⊢
      split at ht
      · split at ht
        · injection ht with ht; subst ht
          match st, hf with
          | x :: st, hf => exact ⟨by rw [if_neg (by decide)]; exact zclip_b, hf.2⟩
        · cases ht
      · cases ht
    · rw [if_neg e2] at ht ⊢
      by_cases e3 : 40 ≤ c
      · rw [if_pos e3] at ht ⊢
        split at ht
        · injection ht with ht; subst ht
          exact ⟨by rw [if_neg (by decide)]; exact zclip_b, hf⟩
        · cases ht
      · rw [if_neg e3] at ht ⊢
        by_cases e0 : hm = true ∧ 6 < c
        · rw [if_pos e0] at ht; cases ht
        rw [if_neg e0] at ht
        by_cases e4 : c = 13
        · rw [if_pos e4] at ht ⊢
          injection ht with ht; subst ht
          exact ⟨by rw [if_pos rfl]; exact Or.inr rfl, hf⟩
        · rw [if_neg e4] at ht ⊢
          by_cases e5 : c = 12
          · rw [if_pos e5] at ht ⊢
            split at ht
            · injection ht with ht; subst ht
              match st, hf with
              | x :: st, hf =>
                refine ⟨?_, hf.2⟩
                have := hf.1
                rw [if_pos rfl] at this ⊢; omega
            · cases ht
          · rw [if_neg e5] at ht ⊢
            by_cases e6 : 1 ≤ c ∧ c ≤ 6
            · rw [if_pos e6] at ht
              split at ht
              · injection ht with ht; subst ht
                match st, hf with
                | x :: y :: st, hf => exact ⟨by rw [if_neg (by decide)]; exact zjo_b (by simpa using hf.2.1) (by simpa using hf.1) e6, hf.2.2⟩
              · cases ht
            · rw [if_neg e6] at ht
              by_cases e7 : 7 ≤ c ∧ c ≤ 9
              · rw [if_pos e7] at ht
                split at ht
                · injection ht with ht; subst ht
                  match st, hf with
                  | x :: y :: st, hf => exact ⟨by rw [if_pos rfl]; exact zjo_t e7, hf.2.2⟩
                · cases ht
              · rw [if_neg e7] at ht
                by_cases e8 : 10 ≤ c ∧ c ≤ 11
                · rw [if_pos e8] at ht
                  split at ht
                  · injection ht with ht; subst ht
                    match st, hf with
                    | x :: y :: st, hf => exact ⟨by rw [if_pos rfl]; exact zjo_u e8 (by simpa using hf.2.1) (by simpa using hf.1), hf.2.2⟩
                  · cases ht
                · rw [if_neg e8] at ht; cases ht
end QS
