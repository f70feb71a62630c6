/-! ===== M: ways, where a man can go ===== -/
/-- k places from (a, b) on are free -/
def zway (nw : Int → Int) (n : Nat) (dx dy : Int) : Nat → Int → Int → Int
  | 0, _, _ => 1
  | k + 1, a, b => if zman nw a b n 0 = -1 then zway nw n dx dy k (a + dx) (b + dy) else 0
section M2
variable {d : Nat} {h : AH} {Q : QQ} {x y z mm dx dy : Int}
set_option maxHeartbeats 1000000
theorem l_294 (hM : MI h) (hV : MV h) (hx : -1 ≤ dx ∧ dx ≤ 1) (hy : -1 ≤ dy ∧ dy ≤ 1) (hxy : dx ≠ 0 ∨ dy ≠ 0) : ∀ (k : Nat) (a b : Int), k ≤ 100 → -100 ≤ a → a ≤ 100 → -100 ≤ b → b ≤ 100 → -100 ≤ x → x ≤ 100 → -100 ≤ y → y ≤ 100 → a + k * dx = x → b + k * dy = y → wpB (d + 2) 294 44 [some (.inr (.inr 1036)), some (.inl mm), some (.inl x), some (.inl y), some (.inl dx), some (.inl dy), some (.inl a), some (.inl b)] [] h (fun o h1 => o = .inl (some (.inl (zway (ah_m h 1083) (ah_m h 1072 4).toNat dx dy k a b))) ∧ h1 = h) := by
  intro k
  induction k with
  | zero =>
    intro a b h0 h1 h2 h3 h4 h5 h6 h7 h8 h9 h10
    have e1 : a = x := by simpa using h9
    have e2 : b = y := by simpa using h10
    subst e1; subst e2
    simp (disch := omega) only [q_294_44, b_294_44, q_294_87, b_294_87, ↓w_iconst, ↓w_iload_n_2, ↓w_iload_n_3, ↓w_iload_6, ↓w_iload_7, ↓w_nop, ↓w_if_icmp_eq, ↓w_if_icmp_ne, ↓w_ireturn1, stw_0, stw_i, stw_l, stw_r, ofK0, ofK1, ofK2, lst1, lst2, lkill, kont_none, kont_some, Int.reduceToNat, List.length_cons, List.length_nil, Nat.reduceAdd, Nat.reduceLeDiff, Nat.zero_le, true_and, and_true, if_true, if_false, ne_eq, Int.reduceEq, Int.reduceNeg, not_false_eq_true, not_true_eq_false, ↓reduceIte, Int.reduceLT, Int.reduceLE, and_self, or_true, true_or, or_false, false_or, false_and, and_false, ah_t_w, ah_m_w, ah_n_w, zway]
  | succ k ih =>
    intro a b h0 h1 h2 h3 h4 h5 h6 h7 h8 h9 h10
    have g1 : (↑(k + 1) : Int) * dx = k * dx + dx := by rw [Int.natCast_add, Int.add_mul]; simp
    have g2 : (↑(k + 1) : Int) * dy = k * dy + dy := by rw [Int.natCast_add, Int.add_mul]; simp
    have kx : (dx = -1 ∧ (k : Int) * dx = -k) ∨ (dx = 0 ∧ (k : Int) * dx = 0) ∨ (dx = 1 ∧ (k : Int) * dx = k) := by
      have : dx = -1 ∨ dx = 0 ∨ dx = 1 := by omega
      rcases this with e | e | e <;> subst e <;> simp
    have ky : (dy = -1 ∧ (k : Int) * dy = -k) ∨ (dy = 0 ∧ (k : Int) * dy = 0) ∨ (dy = 1 ∧ (k : Int) * dy = k) := by
      have : dy = -1 ∨ dy = 0 ∨ dy = 1 := by omega
      rcases this with e | e | e <;> subst e <;> simp
    have ih := ih (a + dx) (b + dy) (by omega) (by omega) (by omega) (by omega) (by omega) h5 h6 h7 h8 (by omega) (by omega)
    have hne : ¬ (a = x ∧ b = y) := by omega
    have key : wpB (d + 2) 294 56 [some (.inr (.inr 1036)), some (.inl mm), some (.inl x), some (.inl y), some (.inl dx), some (.inl dy), some (.inl a), some (.inl b)] [] h (fun o h1 => o = .inl (some (.inl (zway (ah_m h 1083) (ah_m h 1072 4).toNat dx dy (k + 1) a b))) ∧ h1 = h) := by
      by_cases e3 : zman (ah_m h 1083) a b (ah_m h 1072 4).toNat 0 = -1
      · simp (disch := omega) only [q_294_56, b_294_56, q_294_70, b_294_70, q_294_87, b_294_87, ↓w_iconst, ↓w_aload_n_0, ↓w_iload_4, ↓w_iload_5, ↓w_iload_6, ↓w_iload_7, ↓w_istore, ↓w_iadd, ↓w_goto, ↓w_if_icmp_eq, ↓w_ireturn1, ↓w_invokevirtual_2, stw_0, stw_i, stw_l, stw_r, ofK0, ofK1, ofK2, lst1, lst2, lkill, kont_none, kont_some, Int.reduceToNat, List.length_cons, List.length_nil, Nat.reduceAdd, Nat.reduceLeDiff, Nat.zero_le, true_and, and_true, if_true, if_false, ne_eq, Int.reduceEq, Int.reduceNeg, not_false_eq_true, not_true_eq_false, ↓reduceIte, Int.reduceLT, Int.reduceLE, and_self, or_true, true_or, or_false, false_or, false_and, and_false, ah_t_w, ah_m_w, ah_n_w, mt_1036a hM, k_296 hM hV, w32_i, zway, e3]
        exact ih
      · simp (disch := omega) only [q_294_56, b_294_56, q_294_70, b_294_70, q_294_87, b_294_87, ↓w_iconst, ↓w_aload_n_0, ↓w_iload_4, ↓w_iload_5, ↓w_iload_6, ↓w_iload_7, ↓w_istore, ↓w_iadd, ↓w_goto, ↓w_if_icmp_eq, ↓w_ireturn1, ↓w_invokevirtual_2, stw_0, stw_i, stw_l, stw_r, ofK0, ofK1, ofK2, lst1, lst2, lkill, kont_none, kont_some, Int.reduceToNat, List.length_cons, List.length_nil, Nat.reduceAdd, Nat.reduceLeDiff, Nat.zero_le, true_and, and_true, if_true, if_false, ne_eq, Int.reduceEq, Int.reduceNeg, not_false_eq_true, not_true_eq_false, ↓reduceIte, Int.reduceLT, Int.reduceLE, and_self, or_true, true_or, or_false, false_or, false_and, and_false, ah_t_w, ah_m_w, ah_n_w, mt_1036a hM, k_296 hM hV, w32_i, zway, e3]
    rw [q_294_44]
    by_cases e1 : a = x
    · have e2 : ¬ b = y := fun e => hne ⟨e1, e⟩
      simp (disch := omega) only [b_294_44, ↓w_iload_n_2, ↓w_iload_n_3, ↓w_iload_6, ↓w_iload_7, ↓w_nop, ↓w_if_icmp_eq, ↓w_if_icmp_ne, stw_0, stw_i, stw_l, stw_r, ofK0, ofK1, ofK2, lst1, lst2, lkill, kont_none, kont_some, Int.reduceToNat, List.length_cons, List.length_nil, Nat.reduceAdd, Nat.reduceLeDiff, Nat.zero_le, true_and, and_true, if_true, if_false, ne_eq, Int.reduceEq, Int.reduceNeg, not_false_eq_true, not_true_eq_false, ↓reduceIte, Int.reduceLT, Int.reduceLE, and_self, or_true, true_or, or_false, false_or, false_and, and_false, ah_t_w, ah_m_w, ah_n_w, e1, e2]
      rw [e1] at key; exact key
    · simp (disch := omega) only [b_294_44, ↓w_iload_n_2, ↓w_iload_n_3, ↓w_iload_6, ↓w_iload_7, ↓w_nop, ↓w_if_icmp_eq, ↓w_if_icmp_ne, stw_0, stw_i, stw_l, stw_r, ofK0, ofK1, ofK2, lst1, lst2, lkill, kont_none, kont_some, Int.reduceToNat, List.length_cons, List.length_nil, Nat.reduceAdd, Nat.reduceLeDiff, Nat.zero_le, true_and, and_true, if_true, if_false, ne_eq, Int.reduceEq, Int.reduceNeg, not_false_eq_true, not_true_eq_false, ↓reduceIte, Int.reduceLT, Int.reduceLE, and_self, or_true, true_or, or_false, false_or, false_and, and_false, ah_t_w, ah_m_w, ah_n_w, e1]
      exact key
theorem zman_b {nw : Int → Int} : ∀ (k : Nat) (i : Int), 0 ≤ i → -1 ≤ zman nw x y k i ∧ (zman nw x y k i = -1 ∨ (i ≤ zman nw x y k i ∧ zman nw x y k i < i + k)) := by
  intro k
  induction k with
  | zero => intro i h0; simp [zman]
  | succ k ih =>
    intro i h0
    have := ih (i + 1) (by omega)
    unfold zman
    split <;> omega
theorem zsgn_b : -1 ≤ zsgn z ∧ zsgn z ≤ 1 := by unfold zsgn; split <;> (try split) <;> omega
/-- how many steps lie between, the last one not counted -/
def zsteps (p q : Int) : Nat := ((if p < q then q else p) - 1).toNat
theorem zcases (u : Int) : (u < 0 ∧ zabs u = -u ∧ zsgn u = -1) ∨ (u = 0 ∧ zabs u = 0 ∧ zsgn u = 0) ∨ (0 < u ∧ zabs u = u ∧ zsgn u = 1) := by
  have : u < 0 ∨ u = 0 ∨ 0 < u := by omega
  rcases this with g | g | g
  · left; exact ⟨g, if_pos g, if_pos g⟩
  · right; left; subst g; exact ⟨rfl, rfl, rfl⟩
  · right; right; have g' : ¬ u < 0 := by omega
    exact ⟨g, if_neg g', by unfold zsgn; rw [if_neg g', if_pos g]⟩
theorem zstep_x {u v : Int} (hne : ¬ (zabs u = 0 ∧ zabs v = 0)) (hst : zabs u = 0 ∨ zabs v = 0 ∨ zabs u = zabs v) : zsgn u + (zsteps (zabs u) (zabs v) : Int) * zsgn u = u := by
  unfold zsteps
  rcases zcases u with ⟨g, e, f⟩ | ⟨g, e, f⟩ | ⟨g, e, f⟩ <;> rcases zcases v with ⟨g', e', f'⟩ | ⟨g', e', f'⟩ | ⟨g', e', f'⟩ <;> rw [e, e'] at hne hst ⊢ <;> rw [f] <;> split <;> omega
theorem zstep_y {u v : Int} (hne : ¬ (zabs u = 0 ∧ zabs v = 0)) (hst : zabs u = 0 ∨ zabs v = 0 ∨ zabs u = zabs v) : zsgn v + (zsteps (zabs u) (zabs v) : Int) * zsgn v = v := by
  unfold zsteps
  rcases zcases u with ⟨g, e, f⟩ | ⟨g, e, f⟩ | ⟨g, e, f⟩ <;> rcases zcases v with ⟨g', e', f'⟩ | ⟨g', e', f'⟩ | ⟨g', e', f'⟩ <;> rw [e, e'] at hne hst ⊢ <;> rw [f'] <;> split <;> omega
theorem k_294 (hM : MI h) (hV : MV h) (h1 : 0 ≤ mm) (h2 : mm < 8) (hx : 0 ≤ x ∧ x ≤ 5) (hy : 0 ≤ y ∧ y ≤ 5)
    (hne : ¬ (zabs (x - ah_m h 1083 (2 + 2 * mm)) = 0 ∧ zabs (y - ah_m h 1083 (3 + 2 * mm)) = 0))
    (hst : zabs (x - ah_m h 1083 (2 + 2 * mm)) = 0 ∨ zabs (y - ah_m h 1083 (3 + 2 * mm)) = 0 ∨ zabs (x - ah_m h 1083 (2 + 2 * mm)) = zabs (y - ah_m h 1083 (3 + 2 * mm))) :
    wpC (d + 3) 294 [.inr (.inr 1036), .inl mm, .inl x, .inl y] h Q ↔ Q (.inl (some (.inl (zway (ah_m h 1083) (ah_m h 1072 4).toNat (zsgn (x - ah_m h 1083 (2 + 2 * mm))) (zsgn (y - ah_m h 1083 (3 + 2 * mm))) (zsteps (zabs (x - ah_m h 1083 (2 + 2 * mm))) (zabs (y - ah_m h 1083 (3 + 2 * mm)))) (ah_m h 1083 (2 + 2 * mm) + zsgn (x - ah_m h 1083 (2 + 2 * mm))) (ah_m h 1083 (3 + 2 * mm) + zsgn (y - ah_m h 1083 (3 + 2 * mm))))))) h := by
  have hp := hV.2.2.2.2.2.2 mm h1 h2
  have s1 := @zsgn_b (x - ah_m h 1083 (2 + 2 * mm))
  have s2 := @zsgn_b (y - ah_m h 1083 (3 + 2 * mm))
  apply CT_iff; apply CT_of; rw [wpC_B]; refine ⟨⟨Nat.zero_lt_succ _, Nat.le_of_ble_eq_true rfl⟩, ?_⟩; simp only [lent]
  simp (disch := omega) only [q_294_0, b_294_0, ↓w_aload_n_0, ↓w_iload_n_1, ↓w_iload_n_2, ↓w_iload_n_3, ↓w_iload_4, ↓w_iload_5, ↓w_istore, ↓w_iadd, ↓w_isub, ↓w_nop, ↓w_invokestatic_1, ↓w_invokevirtual_1, stw_0, stw_i, stw_l, stw_r, ofK0, ofK1, ofK2, lst1, lst2, lkill, kont_none, kont_some, Int.reduceToNat, List.length_cons, List.length_nil, Nat.reduceAdd, Nat.reduceLeDiff, Nat.zero_le, true_and, and_true, if_true, if_false, ne_eq, Int.reduceEq, Int.reduceNeg, not_false_eq_true, not_true_eq_false, ↓reduceIte, Int.reduceLT, Int.reduceLE, and_self, or_true, true_or, or_false, false_or, false_and, and_false, ah_t_w, ah_m_w, ah_n_w, mt_1036a hM, k_285 hM, k_292 hM, k_295, w32_i]
  generalize e1 : ah_m h 1083 (2 + 2 * mm) = c at *
  generalize e2 : ah_m h 1083 (3 + 2 * mm) = r at *
  refine l_294 hM hV s1 s2 ?_ _ _ _ ?_ (by omega) (by omega) (by omega) (by omega) (by omega) (by omega) (by omega) (by omega) ?_ ?_
  · rcases zcases (x - c) with ⟨g, e, f⟩ | ⟨g, e, f⟩ | ⟨g, e, f⟩ <;> rcases zcases (y - r) with ⟨g', e', f'⟩ | ⟨g', e', f'⟩ | ⟨g', e', f'⟩ <;> omega
  · unfold zsteps
    rcases zcases (x - c) with ⟨g, e, f⟩ | ⟨g, e, f⟩ | ⟨g, e, f⟩ <;> rcases zcases (y - r) with ⟨g', e', f'⟩ | ⟨g', e', f'⟩ | ⟨g', e', f'⟩ <;> rw [e, e'] <;> split <;> omega
  · have := zstep_x hne hst; omega
  · have := zstep_y hne hst; omega
end M2
