/-! ===== bits ===== -/
section Z7
variable {a b k z : Int}
theorem ofI_nat (u : Nat) (hu : u < 2 ^ 31) : (Int32.ofInt (u : Int)).toBitVec.toNat = u := by
  have : (Int32.ofInt (u : Int)).toBitVec = BitVec.ofInt 32 u := rfl
  rw [this, BitVec.toNat_ofInt]
  omega
theorem toI_nat (x : BitVec 32) (hx : x.toNat < 2 ^ 31) : x.toInt = x.toNat := by
  rw [BitVec.toInt_eq_toNat_cond, if_pos (by omega)]
theorem ior_nat (u v : Nat) (hu : u < 2 ^ 31) (hv : v < 2 ^ 31) : ior_ u v = ((u ||| v : Nat) : Int) := by
  unfold ior_
  have e1 : (Int32.ofInt (u : Int) ||| Int32.ofInt (v : Int)).toInt = ((Int32.ofInt (u : Int)).toBitVec ||| (Int32.ofInt (v : Int)).toBitVec).toInt := rfl
  have e2 : ((Int32.ofInt (u : Int)).toBitVec ||| (Int32.ofInt (v : Int)).toBitVec).toNat = u ||| v := by rw [BitVec.toNat_or, ofI_nat u hu, ofI_nat v hv]
  rw [e1, toI_nat _ (by rw [e2]; exact Nat.or_lt_two_pow hu hv), e2]
theorem iand_1 (z : Int) : iand_ z 1 = z % 2 := by
  unfold iand_
  have e1 : (Int32.ofInt z &&& Int32.ofInt 1).toInt = (BitVec.ofInt 32 z &&& 1#32).toInt := rfl
  have e2 : (BitVec.ofInt 32 z &&& 1#32).toNat = (z % 2).toNat := by
    rw [BitVec.toNat_and, BitVec.toNat_ofInt]
    have : (1#32).toNat = 2 ^ 1 - 1 := rfl
    rw [this, Nat.and_two_pow_sub_one_eq_mod]
    omega
  rw [e1, toI_nat _ (by rw [e2]; omega), e2]
  omega
theorem sh_key : ∀ k : Fin 32, ((Int32.ofInt (k.val : Int) &&& 31).toBitVec.smod 32).toNat = k.val := by decide
theorem ishr_nat (u : Nat) (hu : u < 2 ^ 31) (k : Nat) (hk : k < 32) : ishr_ u k = ((u / 2 ^ k : Nat) : Int) := by
  unfold ishr_
  have e1 : (Int32.ofInt (u : Int) >>> (Int32.ofInt (k : Int) &&& 31)).toInt = ((Int32.ofInt (u : Int)).toBitVec.sshiftRight' ((Int32.ofInt (k : Int) &&& 31).toBitVec.smod 32)).toInt := rfl
  rw [e1]
  have e2 : ((Int32.ofInt (k : Int) &&& 31).toBitVec.smod 32).toNat = k := sh_key ⟨k, hk⟩
  unfold BitVec.sshiftRight'
  rw [e2, BitVec.toInt_sshiftRight, toI_nat _ (by rw [ofI_nat u hu]; exact hu), ofI_nat u hu, Int.shiftRight_eq_div_pow]
  norm_cast
set_option maxRecDepth 100000 in
theorem ishl_8 : ∀ k : Fin 256, ishl_ (k.val : Int) 8 = 256 * (k.val : Int) := by decide
theorem ishl_p : ∀ k : Fin 25, ishl_ 1 (k.val : Int) = ((2 ^ k.val : Nat) : Int) := by decide
theorem two_at (ha : 0 ≤ a ∧ a ≤ 255) (hb : 0 ≤ b ∧ b ≤ 255) : ior_ (ishl_ a 8) b = 256 * a + b := by
  obtain ⟨u, rfl⟩ : ∃ u : Nat, a = u := ⟨a.toNat, by omega⟩
  obtain ⟨v, rfl⟩ : ∃ v : Nat, b = v := ⟨b.toNat, by omega⟩
  have e := ishl_8 ⟨u, by omega⟩
  simp only [] at e
  rw [e, show (256 : Int) * (u : Int) = ((2 ^ 8 * u : Nat) : Int) by omega, ior_nat _ _ (by omega) (by omega), ← Nat.two_pow_add_eq_or_of_lt (by omega)]
  omega
/-- whether a bit is set -/
theorem bit_1 (u : Nat) (hu : u < 2 ^ 31) (k : Nat) (hk : k < 32) : iand_ (ishr_ u k) 1 = if u.testBit k = true then 1 else 0 := by
  rw [ishr_nat u hu k hk, iand_1, Nat.testBit_eq_decide_div_mod_eq]
  by_cases g : u / 2 ^ k % 2 = 1
  · rw [decide_eq_true g, if_pos rfl]; omega
  · rw [decide_eq_false g, if_neg (by decide)]; omega
theorem bit_or (u : Nat) (hu : u < 2 ^ 25) (k : Nat) (hk : k < 25) : ior_ u (ishl_ 1 k) = ((u ||| 2 ^ k : Nat) : Int) ∧ u ||| 2 ^ k < 2 ^ 25 ∧ ∀ j, (u ||| 2 ^ k).testBit j = (u.testBit j || decide (k = j)) := by
  have h2 : 2 ^ k < 2 ^ 25 := Nat.pow_lt_pow_right (by decide) hk
  have e := ishl_p ⟨k, hk⟩
  simp only [] at e
  refine ⟨?_, Nat.or_lt_two_pow hu h2, fun j => ?_⟩
  · rw [e, ior_nat _ _ (by omega) (by omega)]
  · rw [Nat.testBit_or, Nat.testBit_two_pow]
end Z7
