/-! ===== X's reader: an atom; values whole ===== -/
section D9
variable {W' : Int → Int → Prop} {d : Nat} {h h' h1 h2 h0 : AH} {Q : QQ} {x y z k s a b c v n p q r o i N lo hi A B E F cap el sp dp capL elL capS elS l' m : Int} {S T T' : Int → Int → Int} {t nw nw' pt of tp : Int → Int} {tl : ALoc} {w W V l cs c1 c2 : List Int} {hm : Bool} {D f u : Nat} {its : List (Int × List Int)}
set_option maxHeartbeats 4000000
theorem zqw_fw : zqw hm t n k = if zfw t n k zASK 0 = 2 then (if hm = true then 2 else 11) else zfw t n k zASK 0 := by
  simp only [zqw, zfw, zASK]
  by_cases g0 : zhw t n k [116, 97, 107, 101, 110] = true
  · rw [if_pos g0, if_pos g0]; rfl
  rw [if_neg g0, if_neg g0]
  by_cases g1 : zhw t n k [99, 104, 101, 99, 107] = true
  · rw [if_pos g1, if_pos g1]; rfl
  rw [if_neg g1, if_neg g1]
  by_cases g2 : zhw t n k [111, 102, 102] = true
  · rw [if_pos g2, if_pos g2]; rfl
  rw [if_neg g2, if_neg g2]
  split
  · rfl
  split
  · rfl
  split
  · rfl
  split
  · rfl
  split
  · rfl
  split
  · rfl
  split
  · rfl
  split
  · rfl
  rfl
theorem zfw_b : ∀ (L : List (List Int)) (i : Int), 0 ≤ i → (zfw t n k L i = -1 ∨ (i ≤ zfw t n k L i ∧ zfw t n k L i < i + L.length)) := by
  intro L
  induction L with
  | nil => intro i _; exact Or.inl rfl
  | cons W L ih =>
    intro i i0
    simp only [zfw]
    split
    · right; simp; omega
    · have := ih (i + 1) (by omega)
      simp only [List.length_cons]
      rcases this with q | q
      · exact Or.inl q
      · right; omega
theorem zfw_mem : ∀ (L : List (List Int)) (i : Int), zfw t n k L i ≠ -1 → ∃ W ∈ L, zhw t n k W = true := by
  intro L
  induction L with
  | nil => intro i q; exact absurd rfl q
  | cons W L ih =>
    intro i q
    simp only [zfw] at q
    by_cases g : zhw t n k W = true
    · exact ⟨W, List.mem_cons_self, g⟩
    · rw [if_neg g] at q
      obtain ⟨V, hV, e⟩ := ih (i + 1) q
      exact ⟨V, List.mem_cons_of_mem _ hV, e⟩
/-- no word asked for is min or max -/
theorem zfw_mm (g : zhw t n k zmin = true ∨ zhw t n k zmax = true) : zfw t n k zASK 0 = -1 ∧ zfw t n k zLOK 0 = -1 := by
  have a1 : ∀ W ∈ zASK, W ≠ zmin ∧ W ≠ zmax := by decide
  have a2 : ∀ W ∈ zLOK, W ≠ zmin ∧ W ≠ zmax := by decide
  refine ⟨Decidable.byContradiction fun q => ?_, Decidable.byContradiction fun q => ?_⟩
  · obtain ⟨W, hW, e⟩ := zfw_mem _ _ q
    rcases g with g | g
    · exact (a1 W hW).1 (zhw_inj e g)
    · exact (a1 W hW).2 (zhw_inj e g)
  · obtain ⟨W, hW, e⟩ := zfw_mem _ _ q
    rcases g with g | g
    · exact (a2 W hW).1 (zhw_inj e g)
    · exact (a2 W hW).2 (zhw_inj e g)
theorem zqw_nb (e : zwb t n k = false) : zqw hm t n k = -1 := by
  rw [zqw_fw]
  have : zfw t n k zASK 0 = -1 := (zfw_no zASK 0 (by omega)).2 (by simp [zASK, zhw_nb e])
  rw [this]; rfl
/-! what an atom is -/
theorem zex_br (h0 : 0 ≤ k) (h1 : k ≤ n) (g : zB t n (zsk t n k) = 40) : zex hm t n (f + 1) 2 k o = zwi hm t n f 0 (zsk t n k) o := by
  simp only [zex, zwi, zsk_zsk h0 h1, if_true, if_false, Int.reduceEq]
  rw [if_pos g, if_pos g]
  cases zex hm t n f 0 (zsk t n k + 1) (o + 1) <;> rfl
theorem zex_no (g : ¬ zB t n (zsk t n k) = 40) (g2 : zhw t n (zsk t n k) zmin = false ∧ zhw t n (zsk t n k) zmax = false) (g3 : ¬ zqw hm t n (zsk t n k) = 11) (g4 : ¬ (0 ≤ zqw hm t n (zsk t n k) ∧ zal hm (zqw hm t n (zsk t n k)) = true)) : zex hm t n (f + 1) 2 k o = match znum t n k 0 9999 with
      | .inl e => .inl e
      | .inr (q, v) => .inr (q, [1000 + v]) := by
  simp only [zex, if_true, if_false, Int.reduceEq]
  rw [if_neg g, if_neg (by rw [g2.1, g2.2]; simp), if_neg g3, if_neg g4]
  cases znum t n k 0 9999 <;> rfl
theorem zex_mm (hm12 : (m = 1 ∧ zhw t n (zsk t n k) zmin = true) ∨ (m = 2 ∧ zhw t n (zsk t n k) zmax = true)) (h1 : k ≤ n) : zex hm t n (f + 1) 2 k o = zwi hm t n f m (zsk t n k + 3) o := by
  have hs := zsk_le (t := t) h1
  have g : ¬ zB t n (zsk t n k) = 40 := by
    rcases hm12 with q | q
    · exact (zhw_r hs.2 q.2).2
    · exact (zhw_r hs.2 q.2).2
  have g2 : zhw t n (zsk t n k) zmin = true ∨ zhw t n (zsk t n k) zmax = true := by
    rcases hm12 with q | q
    · exact Or.inl q.2
    · exact Or.inr q.2
  have m0 : ¬ m = 0 := by omega
  have em : (if zhw t n (zsk t n k) zmin = true then (5 : Int) else 6) = if m = 1 then 5 else 6 := by
    rcases hm12 with q | q
    · rw [if_pos q.2, if_pos q.1]
    · rw [if_neg (fun z => absurd (zhw_inj z q.2) (by decide)), if_neg (by omega)]
  simp only [zex, zwi, if_true, if_false, Int.reduceEq]
  rw [if_neg g, if_pos g2, em]
  simp only [if_neg m0]
  cases zex hm t n f 0 (zsk t n (zsk t n k + 3) + 1) (o + 1) with
  | inl a => rfl
  | inr a => cases zex hm t n f 0 (zsk t n a.1 + 1) (o + 1) <;> rfl
theorem znum_z (h0 : 0 ≤ k) (h1 : k ≤ n) : znum t n (zsk t n k) lo hi = znum t n k lo hi := by
  unfold znum; rw [zsk_zsk h0 h1]
theorem c_94x (hv : 0 ≤ v ∧ v ≤ 10) : wpC (d + 1) 94 [.inl (zctxt hm), .inl v] h Q ↔ Q (.inl (some (.inl (if zal hm v = true then 1 else 0)))) h := by
  obtain ⟨w, rfl⟩ : ∃ w : Nat, v = w := ⟨v.toNat, by omega⟩
  have hw : w = 0 ∨ w = 1 ∨ w = 2 ∨ w = 3 ∨ w = 4 ∨ w = 5 ∨ w = 6 ∨ w = 7 ∨ w = 8 ∨ w = 9 ∨ w = 10 := by omega
  cases hm with
  | true =>
    have := c_94 (d := d) (h := h) (Q := Q) 15 (by decide) w (by omega)
    rw [show zctxt true = ((15 : Nat) : Int) from rfl, this]
    rcases hw with e | e | e | e | e | e | e | e | e | e | e <;> subst e <;> exact Iff.rfl
  | false =>
    have := c_94 (d := d) (h := h) (Q := Q) 2040 (by decide) w (by omega)
    rw [show zctxt false = ((2040 : Nat) : Int) from rfl, this]
    rcases hw with e | e | e | e | e | e | e | e | e | e | e <;> subst e <;> exact Iff.rfl
theorem zfw_ln (hle : k ≤ n) (hv : zfw t n k zASK 0 = v) (h0 : v ≠ -1) : zwe t n k = k + zln v := by
  simp only [zfw, zASK] at hv
  by_cases g0 : zhw t n k [116, 97, 107, 101, 110] = true
  · rw [if_pos g0] at hv
    have := zhw_len hle g0
    subst hv; exact this
  rw [if_neg g0] at hv
  by_cases g1 : zhw t n k [99, 104, 101, 99, 107] = true
  · rw [if_pos g1] at hv
    have := zhw_len hle g1
    subst hv; exact this
  rw [if_neg g1] at hv
  by_cases g2 : zhw t n k [111, 102, 102] = true
  · rw [if_pos g2] at hv
    have := zhw_len hle g2
    subst hv; exact this
  rw [if_neg g2] at hv
  by_cases g3 : zhw t n k [100, 97, 121] = true
  · rw [if_pos g3] at hv
    have := zhw_len hle g3
    subst hv; exact this
  rw [if_neg g3] at hv
  by_cases g4 : zhw t n k [110, 117, 109, 98, 101, 114] = true
  · rw [if_pos g4] at hv
    have := zhw_len hle g4
    subst hv; exact this
  rw [if_neg g4] at hv
  by_cases g5 : zhw t n k [99, 111, 108, 117, 109, 110] = true
  · rw [if_pos g5] at hv
    have := zhw_len hle g5
    subst hv; exact this
  rw [if_neg g5] at hv
  by_cases g6 : zhw t n k [114, 111, 119] = true
  · rw [if_pos g6] at hv
    have := zhw_len hle g6
    subst hv; exact this
  rw [if_neg g6] at hv
  by_cases g7 : zhw t n k [115, 105, 100, 101] = true
  · rw [if_pos g7] at hv
    have := zhw_len hle g7
    subst hv; exact this
  rw [if_neg g7] at hv
  by_cases g8 : zhw t n k [119, 111, 114, 116, 104] = true
  · rw [if_pos g8] at hv
    have := zhw_len hle g8
    subst hv; exact this
  rw [if_neg g8] at hv
  by_cases g9 : zhw t n k [114, 101, 97, 99, 104] = true
  · rw [if_pos g9] at hv
    have := zhw_len hle g9
    subst hv; exact this
  rw [if_neg g9] at hv
  by_cases g10 : zhw t n k [109, 111, 118, 101, 115] = true
  · rw [if_pos g10] at hv
    have := zhw_len hle g10
    subst hv; exact this
  rw [if_neg g10] at hv
  exact absurd hv.symm h0
theorem zfw_lok : zfw t n k zLOK 0 = if zfw t n k zASK 0 = 2 then 0 else -1 := by
  simp only [zfw, zASK, zLOK]
  by_cases g : zhw t n k [111, 102, 102] = true
  · have a0 : ¬ zhw t n k [116, 97, 107, 101, 110] = true := fun q => absurd (zhw_inj q g) (by decide)
    have a1 : ¬ zhw t n k [99, 104, 101, 99, 107] = true := fun q => absurd (zhw_inj q g) (by decide)
    rw [if_pos g, if_neg a0, if_neg a1, if_pos g]; rfl
  · rw [if_neg g]
    by_cases g0 : zhw t n k [116, 97, 107, 101, 110] = true
    · rw [if_pos g0]; rfl
    rw [if_neg g0]
    by_cases g1 : zhw t n k [99, 104, 101, 99, 107] = true
    · rw [if_pos g1]; rfl
    rw [if_neg g1, if_neg g]
    by_cases g3 : zhw t n k [100, 97, 121] = true
    · rw [if_pos g3]; rfl
    rw [if_neg g3]
    by_cases g4 : zhw t n k [110, 117, 109, 98, 101, 114] = true
    · rw [if_pos g4]; rfl
    rw [if_neg g4]
    by_cases g5 : zhw t n k [99, 111, 108, 117, 109, 110] = true
    · rw [if_pos g5]; rfl
    rw [if_neg g5]
    by_cases g6 : zhw t n k [114, 111, 119] = true
    · rw [if_pos g6]; rfl
    rw [if_neg g6]
    by_cases g7 : zhw t n k [115, 105, 100, 101] = true
    · rw [if_pos g7]; rfl
    rw [if_neg g7]
    by_cases g8 : zhw t n k [119, 111, 114, 116, 104] = true
    · rw [if_pos g8]; rfl
    rw [if_neg g8]
    by_cases g9 : zhw t n k [114, 101, 97, 99, 104] = true
    · rw [if_pos g9]; rfl
    rw [if_neg g9]
    by_cases g10 : zhw t n k [109, 111, 118, 101, 115] = true
    · rw [if_pos g10]; rfl
    rw [if_neg g10]
    rfl
theorem zex_lk (g : ¬ zB t n (zsk t n k) = 40) (g2 : zhw t n (zsk t n k) zmin = false ∧ zhw t n (zsk t n k) zmax = false) (g3 : zqw hm t n (zsk t n k) = 11) : zex hm t n (f + 1) 2 k o = if o = 6 then .inl (4, zsk t n k) else match zex hm t n f 2 (zsk t n k + 3) (o + 1) with
      | .inl e => .inl e
      | .inr (k1, c1) => .inr (k1, c1 ++ [60]) := by
  simp only [zex, if_true, if_false, Int.reduceEq]
  rw [if_neg g, if_neg (by rw [g2.1, g2.2]; simp), if_pos g3]
  cases zex hm t n f 2 (zsk t n k + 3) (o + 1) <;> rfl
theorem zex_as (g : ¬ zB t n (zsk t n k) = 40) (g2 : zhw t n (zsk t n k) zmin = false ∧ zhw t n (zsk t n k) zmax = false) (g3 : zqw hm t n (zsk t n k) = v) (g4 : 0 ≤ v ∧ v ≤ 10) (g5 : zal hm v = true) : zex hm t n (f + 1) 2 k o = .inr (zsk t n k + zln v, [40 + v]) := by
  simp only [zex, if_true, if_false, Int.reduceEq]
  rw [if_neg g, if_neg (by rw [g2.1, g2.2]; simp), g3, if_neg (by omega), if_pos ⟨g4.1, g5⟩]
theorem zln_3 : 3 ≤ zln v := by
  unfold zln
  split
  · omega
  split
  · omega
  split
  · omega
  split
  · omega
  split
  · omega
  split
  · omega
  split
  · omega
  split
  · omega
  split
  · omega
  split
  · omega
  split
  · omega
  omega
end D9
