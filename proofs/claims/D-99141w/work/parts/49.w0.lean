/-! ===== small rows for the walks ===== -/
section W0
variable {d m : Nat} {h : AH} {Q : QQ} {x y z : Int}
theorem ofK0 : ofK 0 z = .inl z := rfl
theorem ofK1 : ofK 1 z = .inr (.inl z) := rfl
theorem ofK2 : ofK 2 z = .inr (.inr z) := rfl
theorem stw_0 : stw [] = 0 := rfl
theorem stw_i {st : AStk} : stw (.inl z :: st) = stw st + 1 := rfl
theorem stw_l {st : AStk} : stw (.inr (.inl z) :: st) = stw st + 2 := rfl
theorem stw_r {st : AStk} : stw (.inr (.inr z) :: st) = stw st + 1 := rfl
theorem ah_t_w {a k : Int} : ah_t (ah_w h a k z) x = ah_t h x := rfl
theorem ah_n_w {a k : Int} : ah_n (ah_w h a k z) = ah_n h := rfl
theorem ah_s_w {a k : Int} : ah_s (ah_w h a k z) = ah_s h := rfl
theorem ah_m_w {a k b j : Int} : ah_m (ah_w h a k z) b j = if b = a ∧ j = k then z else ah_m h b j := rfl
theorem w32_i (h1 : -2147483648 ≤ z) (h2 : z < 2147483648) : w32 z = z := by unfold w32; omega
theorem w64_i (h1 : -9223372036854775808 ≤ z) (h2 : z < 9223372036854775808) : w64 z = z := by unfold w64; omega
end W0
