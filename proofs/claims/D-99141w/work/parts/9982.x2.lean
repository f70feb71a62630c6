/-! ===== X: whether a man goes ===== -/
section X2
variable {W : Int → Int → Prop} {d : Nat} {h h' h0 : AH} {Q : QQ} {x y z m k s l w a b c v n p r o i f : Int} {S T T' : Int → Int → Int} {t nw : Int → Int}
set_option maxHeartbeats 4000000
theorem c_36 (h1 : -4 ≤ x) (h2 : x ≤ 4) : wpC (d + 1) 36 [.inl x] h Q ↔ Q (.inl (some (.inl (zsgn x)))) h := by
  apply CT_iff; apply CT_of; rw [wpC_B]; refine ⟨⟨Nat.zero_lt_succ _, Nat.le_of_ble_eq_true rfl⟩, ?_⟩; simp only [lent]
  have : x = -4 ∨ x = -3 ∨ x = -2 ∨ x = -1 ∨ x = 0 ∨ x = 1 ∨ x = 2 ∨ x = 3 ∨ x = 4 := by omega
  rcases this with e | e | e | e | e | e | e | e | e <;> subst e
  all_goals (simp (disch := omega) only [q_36_0, b_36_0, ↓w_bipush, ↓w_iload_n_0, ↓w_ior, ↓w_ishr, ↓w_iushr, ↓w_ineg, ↓w_ireturn0, stw_0, stw_i, stw_l, stw_r, ofK0, ofK1, ofK2, lst1, lst2, lkill, kont_none, kont_some, Int.reduceToNat, List.length_cons, List.length_nil, Nat.reduceAdd, Nat.reduceLeDiff, Nat.zero_le, true_and, and_true, if_true, if_false, ne_eq, Int.reduceEq, Int.reduceNeg, not_false_eq_true, not_true_eq_false, ↓reduceIte, Int.reduceLT, Int.reduceLE, and_self, or_true, true_or, or_false, false_or, false_and, and_false, ah_t_w, ah_m_w, ah_n_w, lst1_0, List.tail_cons, w32_i, zbd, lst2_0])
  all_goals rfl
theorem td5 (h0 : 0 ≤ p) : p.tdiv 5 = p / 5 := Int.tdiv_eq_ediv_of_nonneg h0
theorem tm5 (h0 : 0 ≤ p) : p.tmod 5 = p % 5 := Int.tmod_eq_emod_of_nonneg h0
theorem zcn_0 : ∀ (j : Nat) (m : Int), 0 ≤ zcn T nw j m ∧ zcn T nw j m ≤ j := by
  intro j
  induction j with
  | zero => intro m; simp [zcn]
  | succ j ih => intro m; simp only [zcn]; have := ih (m + 1); split <;> omega
theorem zcn_z : ∀ (j : Nat) (m : Int), zct T nw j m = true ↔ 0 < zcn T nw j m := by
  intro j
  induction j with
  | zero => intro m; simp [zct, zcn]
  | succ j ih =>
    intro m
    simp only [zct, zcn]
    have := @zcn_0 T nw j (m + 1)
    by_cases g : zcw T m = 1 ∧ nw (2 + 2 * m) = -1
    · rw [if_pos g, if_pos ⟨g.2, g.1⟩]; simp; omega
    · rw [if_neg g, if_neg (fun q => g ⟨q.2, q.1⟩), ih, Int.zero_add]
theorem l_216 (hK : XG T h) (hS : XS T nw s h) {dx dy cx ry : Int} {N : Nat} (hx : (dx = -1 ∨ dx = 0 ∨ dx = 1) ∧ (dy = -1 ∨ dy = 0 ∨ dy = 1)) (hc : (0 ≤ cx ∧ cx < 5) ∧ (0 ≤ ry ∧ ry < 5)) (hN : (N : Int) ≤ 3) (he : (0 ≤ cx + (N + 1) * dx ∧ cx + (N + 1) * dx < 5) ∧ (0 ≤ ry + (N + 1) * dy ∧ ry + (N + 1) * dy < 5)) {a1 a2 a4 a5 a6 a7 a8 : Option AV} :
    ∀ (j : Nat) (i : Int), 1 ≤ i → i + j = N + 1 → wpB d 216 224 [some (.inr (.inr s)), a1, a2, some (.inl (5 * ry + cx)), a4, a5, a6, a7, a8, some (.inl (N + 1)), some (.inl (dx + 5 * dy)), some (.inl i)] [] h (fun o h1 => o = .inl (some (.inl (zway nw (zn T) dx dy j (cx + i * dx) (ry + i * dy)))) ∧ h1 = h) := by
  intro j
  induction j with
  | zero =>
    intro i i0 i1
    have g : ¬ i < N + 1 := by omega
    simp (disch := omega) only [q_216_224, b_216_224, q_216_255, b_216_255, ↓w_iconst, ↓w_aload_n_0, ↓w_iload_n_3, ↓w_iload_9, ↓w_iload_10, ↓w_iload_11, ↓w_iadd, ↓w_imul, ↓w_getfield, ↓w_iaload, ↓w_if_icmp_eq, ↓w_if_icmp_ge, ↓w_ireturn1, stw_0, stw_i, stw_l, stw_r, ofK0, ofK1, ofK2, lst1, lst2, lkill, kont_none, kont_some, Int.reduceToNat, List.length_cons, List.length_nil, Nat.reduceAdd, Nat.reduceLeDiff, Nat.zero_le, true_and, and_true, if_true, if_false, ne_eq, Int.reduceEq, Int.reduceNeg, not_false_eq_true, not_true_eq_false, ↓reduceIte, Int.reduceLT, Int.reduceLE, and_self, or_true, true_or, or_false, false_or, false_and, and_false, ah_t_w, ah_m_w, ah_n_w, lst1_0, List.tail_cons, w32_i, zbd, lst2_0, s_t hK hS, s_4 hK hS, s_4a hK hS, s_4b hK hS, g, zway]
  | succ j ih =>
    intro i i0 i1
    have g : i < N + 1 := by omega
    have ih := ih (i + 1) (by omega) (by omega)
    have hp : (0 ≤ cx + i * dx ∧ cx + i * dx < 5) ∧ (0 ≤ ry + i * dy ∧ ry + i * dy < 5) := by
      obtain ⟨h1, h2⟩ := hx
      rcases h1 with e | e | e <;> rcases h2 with e' | e' | e' <;> subst e <;> subst e' <;> omega
    have ei : i * (dx + 5 * dy) = i * dx + 5 * (i * dy) := by rw [Int.mul_add, Int.mul_left_comm]
    have e1 : (i + 1) * dx = i * dx + dx := by rw [Int.add_mul, Int.one_mul]
    have e2 : (i + 1) * dy = i * dy + dy := by rw [Int.add_mul, Int.one_mul]
    rw [e1, e2, ← Int.add_assoc, ← Int.add_assoc] at ih
    generalize i * dx = u at *
    generalize i * dy = v at *
    have eo : ah_m h (s + 2) (5 * ry + cx + (u + 5 * v)) = zman nw (cx + u) (ry + v) (zn T) 0 := by
      rw [so hS (by omega) (by omega)]
      unfold zon5 zat
      rw [show (5 * ry + cx + (u + 5 * v)) % 5 = cx + u by omega, show (5 * ry + cx + (u + 5 * v)) / 5 = ry + v by omega]
      rfl
    rw [q_216_224]
    simp only [zway]
    by_cases g2 : zman nw (cx + u) (ry + v) (zn T) 0 = -1
    · simp (disch := omega) only [b_216_224, q_216_249, b_216_249, ↓w_iconst, ↓w_aload_n_0, ↓w_iload_n_3, ↓w_iload_9, ↓w_iload_10, ↓w_iload_11, ↓w_iinc_11, ↓w_iadd, ↓w_imul, ↓w_getfield, ↓w_iaload, ↓w_goto, ↓w_if_icmp_eq, ↓w_if_icmp_ge, ↓w_ireturn1, stw_0, stw_i, stw_l, stw_r, ofK0, ofK1, ofK2, lst1, lst2, lkill, kont_none, kont_some, Int.reduceToNat, List.length_cons, List.length_nil, Nat.reduceAdd, Nat.reduceLeDiff, Nat.zero_le, true_and, and_true, if_true, if_false, ne_eq, Int.reduceEq, Int.reduceNeg, not_false_eq_true, not_true_eq_false, ↓reduceIte, Int.reduceLT, Int.reduceLE, and_self, or_true, true_or, or_false, false_or, false_and, and_false, ah_t_w, ah_m_w, ah_n_w, lst1_0, List.tail_cons, w32_i, zbd, lst2_0, s_t hK hS, s_4 hK hS, s_4a hK hS, s_4b hK hS, g, ei, eo, g2]
      exact ih
    · simp (disch := omega) only [b_216_224, q_216_249, b_216_249, ↓w_iconst, ↓w_aload_n_0, ↓w_iload_n_3, ↓w_iload_9, ↓w_iload_10, ↓w_iload_11, ↓w_iinc_11, ↓w_iadd, ↓w_imul, ↓w_getfield, ↓w_iaload, ↓w_goto, ↓w_if_icmp_eq, ↓w_if_icmp_ge, ↓w_ireturn1, stw_0, stw_i, stw_l, stw_r, ofK0, ofK1, ofK2, lst1, lst2, lkill, kont_none, kont_some, Int.reduceToNat, List.length_cons, List.length_nil, Nat.reduceAdd, Nat.reduceLeDiff, Nat.zero_le, true_and, and_true, if_true, if_false, ne_eq, Int.reduceEq, Int.reduceNeg, not_false_eq_true, not_true_eq_false, ↓reduceIte, Int.reduceLT, Int.reduceLE, and_self, or_true, true_or, or_false, false_or, false_and, and_false, ah_t_w, ah_m_w, ah_n_w, lst1_0, List.tail_cons, w32_i, zbd, lst2_0, s_t hK hS, s_4 hK hS, s_4a hK hS, s_4b hK hS, g, ei, eo, g2]
theorem zabs_i (u : Int) : (zabs u = 0 ↔ u = 0) ∧ 0 ≤ zabs u := by unfold zabs; split <;> omega
theorem zabs_m {u v : Int} (h1 : -4 ≤ u ∧ u ≤ 4) (h2 : -4 ≤ v ∧ v ≤ 4) : zabs (u * v) = zabs u * zabs v := by
  have a1 : u = -4 ∨ u = -3 ∨ u = -2 ∨ u = -1 ∨ u = 0 ∨ u = 1 ∨ u = 2 ∨ u = 3 ∨ u = 4 := by omega
  unfold zabs
  rcases a1 with e | e | e | e | e | e | e | e | e <;> subst e <;> (split <;> split <;> (try split) <;> omega)
theorem c_216 (hK : XG T h) (hS : XS T nw s h) (hN : NV T nw) (m0 : 0 ≤ m) (m1 : m < T 1072 4) (hx : 0 ≤ x ∧ x < T 1074 4) (hy : 0 ≤ y ∧ y < T 1074 5) : wpC (d + 6) 216 [.inr (.inr s), .inl m, .inl (5 * y + x)] h Q ↔ Q (.inl (some (.inl (zb (zgo nw (T 1076) (T 1075) (zn T) x y m))))) h := by
  have n8 := hK.2.2.2.1
  have hC := hK.2.2.2.2.2.1; have hR := hK.2.2.2.2.2.2.1
  have ep := sp hS m0 m1
  have eo : ah_m h (s + 2) (5 * y + x) = zman nw x y (zn T) 0 := by
    rw [so hS (by omega) (by omega)]
    unfold zon5 zat
    rw [show (5 * y + x) % 5 = x by omega, show (5 * y + x) / 5 = y by omega]; rfl
  have hb := @zman_b x y nw (zn T) 0 (by omega)
  have hzn : ((zn T : Nat) : Int) = T 1072 4 := by unfold zn; omega
  have hnv := hN.2.1 m m0 m1
  unfold zpl5 at ep
  apply CT_iff; apply CT_of; rw [wpC_B]; refine ⟨⟨Nat.zero_lt_succ _, Nat.le_of_ble_eq_true rfl⟩, ?_⟩; simp only [lent]
  by_cases g1 : nw (2 + 2 * m) = -1
  · rw [if_pos g1] at ep
    have : zgo nw (T 1076) (T 1075) (zn T) x y m = false := by unfold zgo; simp [g1]
    rw [this]
    simp (disch := omega) only [q_216_0, b_216_0, q_216_57, b_216_57, ↓w_iconst, ↓w_aload_n_0, ↓w_iload_n_1, ↓w_iload_n_2, ↓w_iload_n_3, ↓w_istore_n_3, ↓w_getfield, ↓w_iaload, ↓w_nop, ↓w_if_icmp_eq, ↓w_if_icmp_ne, ↓w_ireturn1, ↓w_invokevirtual_1, stw_0, stw_i, stw_l, stw_r, ofK0, ofK1, ofK2, lst1, lst2, lkill, kont_none, kont_some, Int.reduceToNat, List.length_cons, List.length_nil, Nat.reduceAdd, Nat.reduceLeDiff, Nat.zero_le, true_and, and_true, if_true, if_false, ne_eq, Int.reduceEq, Int.reduceNeg, not_false_eq_true, not_true_eq_false, ↓reduceIte, Int.reduceLT, Int.reduceLE, and_self, or_true, true_or, or_false, false_or, false_and, and_false, ah_t_w, ah_m_w, ah_n_w, lst1_0, List.tail_cons, w32_i, zbd, lst2_0, xt_1a hK, s_t hK hS, s_3 hK hS, s_3a hK hS, s_3b hK hS, s_4 hK hS, s_4a hK hS, s_4b hK hS, s_11 hK hS, ep, zb, Bool.false_eq_true]
  rw [if_neg g1] at ep
  have hcr : (0 ≤ nw (2 + 2 * m) ∧ nw (2 + 2 * m) < T 1074 4) ∧ (0 ≤ nw (3 + 2 * m) ∧ nw (3 + 2 * m) < T 1074 5) := by
    rcases hnv with q | q
    · exact absurd q.1 g1
    · exact q
  unfold zgo
  rw [decide_eq_true g1, Bool.true_and]
  generalize hcx : nw (2 + 2 * m) = cx at *
  generalize hry : nw (3 + 2 * m) = ry at *
  have k0 : ¬ 5 * ry + cx = -1 := by omega
  by_cases g2 : x = cx ∧ y = ry
  · have e1 : zabs (x - cx) = 0 ∧ zabs (y - ry) = 0 := ⟨(zabs_i _).1.2 (by omega), (zabs_i _).1.2 (by omega)⟩
    rw [decide_eq_true e1]
    have k1 : 5 * ry + cx = 5 * y + x := by omega
    have k0' : ¬ 5 * y + x = -1 := by omega
    simp (disch := omega) only [q_216_0, b_216_0, q_216_57, b_216_57, ↓w_iconst, ↓w_aload_n_0, ↓w_iload_n_1, ↓w_iload_n_2, ↓w_iload_n_3, ↓w_istore_n_3, ↓w_getfield, ↓w_iaload, ↓w_nop, ↓w_if_icmp_eq, ↓w_if_icmp_ne, ↓w_ireturn1, ↓w_invokevirtual_1, stw_0, stw_i, stw_l, stw_r, ofK0, ofK1, ofK2, lst1, lst2, lkill, kont_none, kont_some, Int.reduceToNat, List.length_cons, List.length_nil, Nat.reduceAdd, Nat.reduceLeDiff, Nat.zero_le, true_and, and_true, if_true, if_false, ne_eq, Int.reduceEq, Int.reduceNeg, not_false_eq_true, not_true_eq_false, ↓reduceIte, Int.reduceLT, Int.reduceLE, and_self, or_true, true_or, or_false, false_or, false_and, and_false, ah_t_w, ah_m_w, ah_n_w, lst1_0, List.tail_cons, w32_i, zbd, lst2_0, xt_1a hK, s_t hK hS, s_3 hK hS, s_3a hK hS, s_3b hK hS, s_4 hK hS, s_4a hK hS, s_4b hK hS, s_11 hK hS, ep, k0', k1, zb, Bool.not_true, Bool.false_and, Bool.false_eq_true]
  have k1 : ¬ 5 * ry + cx = 5 * y + x := by omega
  have e1 : ¬ (zabs (x - cx) = 0 ∧ zabs (y - ry) = 0) := fun q => g2 ⟨by have := (zabs_i _).1.1 q.1; omega, by have := (zabs_i _).1.1 q.2; omega⟩
  rw [decide_eq_false e1, Bool.not_false, Bool.true_and]
  -- from 59 on
  have rest : wpB (d + 5) 216 59 [some (.inr (.inr s)), some (.inl m), some (.inl (5 * y + x)), some (.inl (5 * ry + cx))] [] h (fun o h1 => o = .inl (some (.inl (zb (zfits nw (T 1075) (zn T) x y cx ry (T 1076 (16 + 2 * m)))))) ∧ h1 = h) := by
    have t1 : (5 * y + x).tmod 5 = x := by rw [tm5 (by omega)]; omega
    have t2 : (5 * y + x).tdiv 5 = y := by rw [td5 (by omega)]; omega
    have t3 : (5 * ry + cx).tmod 5 = cx := by rw [tm5 (by omega)]; omega
    have t4 : (5 * ry + cx).tdiv 5 = ry := by rw [td5 (by omega)]; omega
    have hu : -4 ≤ x - cx ∧ x - cx ≤ 4 := by omega
    have hv : -4 ≤ y - ry ∧ y - ry ≤ 4 := by omega
    have za := zabs_i (x - cx); have zb' := zabs_i (y - ry)
    have zc1 := zcases (x - cx); have zc2 := zcases (y - ry)
    have hab := zabs_m hu hv
    unfold zfits zoff
    by_cases g4 : T 1075 (20 + 4 * T 1076 (16 + 2 * m)) = 4
    · rw [if_pos g4]
      have hpr : -16 ≤ (x - cx) * (y - ry) ∧ (x - cx) * (y - ry) ≤ 16 := by
        have a1 : x - cx = -4 ∨ x - cx = -3 ∨ x - cx = -2 ∨ x - cx = -1 ∨ x - cx = 0 ∨ x - cx = 1 ∨ x - cx = 2 ∨ x - cx = 3 ∨ x - cx = 4 := by omega
        rcases a1 with e | e | e | e | e | e | e | e | e <;> rw [e] <;> omega
      by_cases g5 : zabs (x - cx) * zabs (y - ry) = 2
      · rw [decide_eq_true g5]
        simp (disch := omega) only [q_216_59, b_216_59, q_216_112, b_216_112, q_216_113, b_216_113, ↓w_iconst, ↓w_aload_n_0, ↓w_iload_n_1, ↓w_iload_n_2, ↓w_iload_n_3, ↓w_iload_4, ↓w_iload_5, ↓w_aload_6, ↓w_istore, ↓w_astore, ↓w_isub, ↓w_imul, ↓w_idiv, ↓w_irem, ↓w_getfield, ↓w_nop, ↓w_goto, ↓w_if_icmp_ne, ↓w_ireturn1, ↓w_invokestatic_1, ↓w_invokevirtual_1, stw_0, stw_i, stw_l, stw_r, ofK0, ofK1, ofK2, lst1, lst2, lkill, kont_none, kont_some, Int.reduceToNat, List.length_cons, List.length_nil, Nat.reduceAdd, Nat.reduceLeDiff, Nat.zero_le, true_and, and_true, if_true, if_false, ne_eq, Int.reduceEq, Int.reduceNeg, not_false_eq_true, not_true_eq_false, ↓reduceIte, Int.reduceLT, Int.reduceLE, and_self, or_true, true_or, or_false, false_or, false_and, and_false, ah_t_w, ah_m_w, ah_n_w, lst1_0, List.tail_cons, w32_i, zbd, lst2_0, xt_1a hK, s_t hK hS, s_11 hK hS, c_82 hK m0 m1, km_t hK m0 m1, km_1 hK m0 m1, t1, t2, t3, t4, g4, c_19, hab, g5, zb]
      · rw [decide_eq_false g5]
        simp (disch := omega) only [q_216_59, b_216_59, q_216_112, b_216_112, q_216_113, b_216_113, ↓w_iconst, ↓w_aload_n_0, ↓w_iload_n_1, ↓w_iload_n_2, ↓w_iload_n_3, ↓w_iload_4, ↓w_iload_5, ↓w_aload_6, ↓w_istore, ↓w_astore, ↓w_isub, ↓w_imul, ↓w_idiv, ↓w_irem, ↓w_getfield, ↓w_nop, ↓w_goto, ↓w_if_icmp_ne, ↓w_ireturn1, ↓w_invokestatic_1, ↓w_invokevirtual_1, stw_0, stw_i, stw_l, stw_r, ofK0, ofK1, ofK2, lst1, lst2, lkill, kont_none, kont_some, Int.reduceToNat, List.length_cons, List.length_nil, Nat.reduceAdd, Nat.reduceLeDiff, Nat.zero_le, true_and, and_true, if_true, if_false, ne_eq, Int.reduceEq, Int.reduceNeg, not_false_eq_true, not_true_eq_false, ↓reduceIte, Int.reduceLT, Int.reduceLE, and_self, or_true, true_or, or_false, false_or, false_and, and_false, ah_t_w, ah_m_w, ah_n_w, lst1_0, List.tail_cons, w32_i, zbd, lst2_0, xt_1a hK, s_t hK hS, s_11 hK hS, c_82 hK m0 m1, km_t hK m0 m1, km_1 hK m0 m1, t1, t2, t3, t4, g4, c_19, hab, g5, zb, Bool.false_eq_true]
    rw [if_neg g4]
    have em : (if zabs (y - ry) < zabs (x - cx) then zabs (x - cx) else zabs (y - ry)) = (if zabs (x - cx) < zabs (y - ry) then zabs (y - ry) else zabs (x - cx)) := by split <;> split <;> omega
    rw [em]
    have hM : 1 ≤ (if zabs (x - cx) < zabs (y - ry) then zabs (y - ry) else zabs (x - cx)) ∧ (if zabs (x - cx) < zabs (y - ry) then zabs (y - ry) else zabs (x - cx)) ≤ 4 := by
      have : ¬ (x - cx = 0 ∧ y - ry = 0) := fun q => g2 ⟨by omega, by omega⟩
      split <;> omega
    have hst : ((zsteps (zabs (x - cx)) (zabs (y - ry)) : Nat) : Int) + 1 = (if zabs (x - cx) < zabs (y - ry) then zabs (y - ry) else zabs (x - cx)) := by unfold zsteps; omega
    generalize hA : zsteps (zabs (x - cx)) (zabs (y - ry)) = N at *
    rw [← hst] at hM ⊢
    have fin : ∀ a7 a8, ((zabs (x - cx) = 0 ∨ zabs (y - ry) = 0) ∨ zabs (x - cx) = zabs (y - ry)) → wpB (d + 5) 216 194 [some (.inr (.inr s)), some (.inl m), some (.inl (5 * y + x)), some (.inl (5 * ry + cx)), some (.inl (x - cx)), some (.inl (y - ry)), some (.inr (.inr (xkm T h m))), some (.inl a7), some (.inl a8), some (.inl (N + 1))] [] h (fun o h1 => o = .inl (some (.inl (zb (decide ((N : Int) + 1 ≤ T 1075 (21 + 4 * T 1076 (16 + 2 * m)) ∧ zway nw (zn T) (zsgn (x - cx)) (zsgn (y - ry)) N (cx + zsgn (x - cx)) (ry + zsgn (y - ry)) = 1))))) ∧ h1 = h) := by
      intro a7 a8 hal
      by_cases gr : (N : Int) + 1 ≤ T 1075 (21 + 4 * T 1076 (16 + 2 * m))
      · have hend : (0 ≤ cx + (N + 1) * zsgn (x - cx) ∧ cx + (N + 1) * zsgn (x - cx) < 5) ∧ (0 ≤ ry + (N + 1) * zsgn (y - ry) ∧ ry + (N + 1) * zsgn (y - ry) < 5) := by
          rw [hst]
          rcases zc1 with q | q | q <;> rcases zc2 with q' | q' | q' <;> rw [q.2.2, q'.2.2] <;> split <;> omega
        have := l_216 (d := d + 5) hK hS (dx := zsgn (x - cx)) (dy := zsgn (y - ry)) (cx := cx) (ry := ry) (N := N) (by rcases zc1 with q | q | q <;> rcases zc2 with q' | q' | q' <;> rw [q.2.2, q'.2.2] <;> omega) (by omega) (by omega) hend (a1 := some (.inl m)) (a2 := some (.inl (5 * y + x))) (a4 := some (.inl (x - cx))) (a5 := some (.inl (y - ry))) (a6 := some (.inr (.inr (xkm T h m)))) (a7 := some (.inl a7)) (a8 := some (.inl a8)) N 1 (by decide) (by omega)
        rw [Int.one_mul, Int.one_mul] at this
        have hs1 : -1 ≤ zsgn (x - cx) ∧ zsgn (x - cx) ≤ 1 := by rcases zc1 with q | q | q <;> omega
        have hs2 : -1 ≤ zsgn (y - ry) ∧ zsgn (y - ry) ≤ 1 := by rcases zc2 with q | q | q <;> omega
        have hwy := @zway_b nw (zn T) (zsgn (x - cx)) (zsgn (y - ry)) N (cx + zsgn (x - cx)) (ry + zsgn (y - ry))
        have gr' : ¬ T 1075 (21 + 4 * T 1076 (16 + 2 * m)) < (N : Int) + 1 := by omega
        simp (disch := omega) only [q_216_194, b_216_194, q_216_206, b_216_206, ↓w_iconst, ↓w_iload_4, ↓w_iload_5, ↓w_aload_6, ↓w_iload_9, ↓w_istore, ↓w_iadd, ↓w_imul, ↓w_getfield, ↓w_nop, ↓w_if_icmp_le, ↓w_invokestatic_1, stw_0, stw_i, stw_l, stw_r, ofK0, ofK1, ofK2, lst1, lst2, lkill, kont_none, kont_some, Int.reduceToNat, List.length_cons, List.length_nil, Nat.reduceAdd, Nat.reduceLeDiff, Nat.zero_le, true_and, and_true, if_true, if_false, ne_eq, Int.reduceEq, Int.reduceNeg, not_false_eq_true, not_true_eq_false, ↓reduceIte, Int.reduceLT, Int.reduceLE, and_self, or_true, true_or, or_false, false_or, false_and, and_false, ah_t_w, ah_m_w, ah_n_w, lst1_0, List.tail_cons, w32_i, zbd, lst2_0, km_t hK m0 m1, km_2 hK m0 m1, gr', c_36]
        refine wpB_mono this (fun o h1 q => ⟨?_, q.2⟩)
        rw [q.1]
        rcases hwy with e | e <;> rw [e] <;> simp [zb, gr]
      · have : ¬ ((N : Int) + 1 ≤ T 1075 (21 + 4 * T 1076 (16 + 2 * m)) ∧ zway nw (zn T) (zsgn (x - cx)) (zsgn (y - ry)) N (cx + zsgn (x - cx)) (ry + zsgn (y - ry)) = 1) := fun q => gr q.1
        rw [decide_eq_false this]
        have gr' : T 1075 (21 + 4 * T 1076 (16 + 2 * m)) < (N : Int) + 1 := by omega
        simp (disch := omega) only [q_216_194, b_216_194, q_216_204, b_216_204, ↓w_iconst, ↓w_aload_6, ↓w_iload_9, ↓w_getfield, ↓w_nop, ↓w_if_icmp_le, ↓w_ireturn1, stw_0, stw_i, stw_l, stw_r, ofK0, ofK1, ofK2, lst1, lst2, lkill, kont_none, kont_some, Int.reduceToNat, List.length_cons, List.length_nil, Nat.reduceAdd, Nat.reduceLeDiff, Nat.zero_le, true_and, and_true, if_true, if_false, ne_eq, Int.reduceEq, Int.reduceNeg, not_false_eq_true, not_true_eq_false, ↓reduceIte, Int.reduceLT, Int.reduceLE, and_self, or_true, true_or, or_false, false_or, false_and, and_false, ah_t_w, ah_m_w, ah_n_w, lst1_0, List.tail_cons, w32_i, zbd, lst2_0, km_t hK m0 m1, km_2 hK m0 m1, gr', zb, Bool.false_eq_true]
    rw [hst] at fin ⊢
    generalize hwd : T 1075 (20 + 4 * T 1076 (16 + 2 * m)) = ways at *
    have kw : ah_m h (xkm T h m) 1 = ways := by rw [km_1 hK m0 m1]; exact hwd
    have kt := km_t hK m0 m1
    have bad : ¬ ((zabs (x - cx) = 0 ∨ zabs (y - ry) = 0) ∧ ways ≠ 2 ∨ zabs (x - cx) = zabs (y - ry) ∧ ways ≠ 1) → decide ((if zabs (x - cx) < zabs (y - ry) then zabs (y - ry) else zabs (x - cx)) ≤ T 1075 (21 + 4 * T 1076 (16 + 2 * m)) ∧ ((zabs (x - cx) = 0 ∨ zabs (y - ry) = 0) ∧ ways ≠ 2 ∨ zabs (x - cx) = zabs (y - ry) ∧ ways ≠ 1) ∧ zway nw (zn T) (zsgn (x - cx)) (zsgn (y - ry)) N (cx + zsgn (x - cx)) (ry + zsgn (y - ry)) = 1) = false := fun q => decide_eq_false (fun u => q u.2.1)
    have good : ((zabs (x - cx) = 0 ∨ zabs (y - ry) = 0) ∧ ways ≠ 2 ∨ zabs (x - cx) = zabs (y - ry) ∧ ways ≠ 1) → decide ((if zabs (x - cx) < zabs (y - ry) then zabs (y - ry) else zabs (x - cx)) ≤ T 1075 (21 + 4 * T 1076 (16 + 2 * m)) ∧ ((zabs (x - cx) = 0 ∨ zabs (y - ry) = 0) ∧ ways ≠ 2 ∨ zabs (x - cx) = zabs (y - ry) ∧ ways ≠ 1) ∧ zway nw (zn T) (zsgn (x - cx)) (zsgn (y - ry)) N (cx + zsgn (x - cx)) (ry + zsgn (y - ry)) = 1) = decide ((if zabs (x - cx) < zabs (y - ry) then zabs (y - ry) else zabs (x - cx)) ≤ T 1075 (21 + 4 * T 1076 (16 + 2 * m)) ∧ zway nw (zn T) (zsgn (x - cx)) (zsgn (y - ry)) N (cx + zsgn (x - cx)) (ry + zsgn (y - ry)) = 1) := fun q => decide_eq_decide.2 ⟨fun u => ⟨u.1, u.2.2⟩, fun u => ⟨u.1, q, u.2⟩⟩
    by_cases ga : zabs (x - cx) = zabs (y - ry)
    · have gc : ¬ x - cx = 0 := fun q => g2 (by rcases zc1 with u | u | u <;> rcases zc2 with u' | u' | u' <;> omega)
      have gv : ¬ y - ry = 0 := fun q => g2 (by rcases zc1 with u | u | u <;> rcases zc2 with u' | u' | u' <;> omega)
      have hal : (zabs (x - cx) = 0 ∨ zabs (y - ry) = 0) ∨ zabs (x - cx) = zabs (y - ry) := Or.inr ga
      by_cases g5 : ways = 1
      · have nok : ¬ ((zabs (x - cx) = 0 ∨ zabs (y - ry) = 0) ∧ ways ≠ 2 ∨ zabs (x - cx) = zabs (y - ry) ∧ ways ≠ 1) := by omega
        rw [bad nok]
        simp (disch := omega) only [q_216_59, b_216_59, q_216_114, b_216_114, q_216_124, b_216_124, q_216_128, b_216_128, q_216_129, b_216_129, q_216_148, b_216_148, q_216_149, b_216_149, q_216_180, b_216_180, q_216_204, b_216_204, ↓w_iconst, ↓w_aload_n_0, ↓w_iload_n_1, ↓w_iload_n_2, ↓w_iload_n_3, ↓w_iload_4, ↓w_iload_5, ↓w_aload_6, ↓w_iload_7, ↓w_iload_8, ↓w_istore, ↓w_astore, ↓w_isub, ↓w_imul, ↓w_idiv, ↓w_irem, ↓w_getfield, ↓w_nop, ↓w_goto, ↓w_ifCond_eq, ↓w_if_icmp_eq, ↓w_ifCond_ne, ↓w_if_icmp_ne, ↓w_ireturn1, ↓w_invokestatic_1, ↓w_invokevirtual_1, ↓w_invokestatic_2, stw_0, stw_i, stw_l, stw_r, ofK0, ofK1, ofK2, lst1, lst2, lkill, kont_none, kont_some, Int.reduceToNat, List.length_cons, List.length_nil, Nat.reduceAdd, Nat.reduceLeDiff, Nat.zero_le, true_and, and_true, if_true, if_false, ne_eq, Int.reduceEq, Int.reduceNeg, not_false_eq_true, not_true_eq_false, ↓reduceIte, Int.reduceLT, Int.reduceLE, and_self, or_true, true_or, or_false, false_or, false_and, and_false, ah_t_w, ah_m_w, ah_n_w, lst1_0, List.tail_cons, w32_i, zbd, lst2_0, xt_1a hK, s_t hK hS, s_11 hK hS, c_82 hK m0 m1, kt, kw, t1, t2, t3, t4, g4, c_19, c_17, gc, gv, eq_true ga, g5, zb, Bool.false_eq_true]
      · have ok : ((zabs (x - cx) = 0 ∨ zabs (y - ry) = 0) ∧ ways ≠ 2 ∨ zabs (x - cx) = zabs (y - ry) ∧ ways ≠ 1) := by omega
        rw [good ok]
        have fin := fin 0 1 hal
        simp (disch := omega) only [q_216_59, b_216_59, q_216_114, b_216_114, q_216_124, b_216_124, q_216_128, b_216_128, q_216_129, b_216_129, q_216_148, b_216_148, q_216_149, b_216_149, q_216_180, b_216_180, q_216_204, b_216_204, ↓w_iconst, ↓w_aload_n_0, ↓w_iload_n_1, ↓w_iload_n_2, ↓w_iload_n_3, ↓w_iload_4, ↓w_iload_5, ↓w_aload_6, ↓w_iload_7, ↓w_iload_8, ↓w_istore, ↓w_astore, ↓w_isub, ↓w_imul, ↓w_idiv, ↓w_irem, ↓w_getfield, ↓w_nop, ↓w_goto, ↓w_ifCond_eq, ↓w_if_icmp_eq, ↓w_ifCond_ne, ↓w_if_icmp_ne, ↓w_ireturn1, ↓w_invokestatic_1, ↓w_invokevirtual_1, ↓w_invokestatic_2, stw_0, stw_i, stw_l, stw_r, ofK0, ofK1, ofK2, lst1, lst2, lkill, kont_none, kont_some, Int.reduceToNat, List.length_cons, List.length_nil, Nat.reduceAdd, Nat.reduceLeDiff, Nat.zero_le, true_and, and_true, if_true, if_false, ne_eq, Int.reduceEq, Int.reduceNeg, not_false_eq_true, not_true_eq_false, ↓reduceIte, Int.reduceLT, Int.reduceLE, and_self, or_true, true_or, or_false, false_or, false_and, and_false, ah_t_w, ah_m_w, ah_n_w, lst1_0, List.tail_cons, w32_i, zbd, lst2_0, xt_1a hK, s_t hK hS, s_11 hK hS, c_82 hK m0 m1, kt, kw, t1, t2, t3, t4, g4, c_19, c_17, gc, gv, eq_true ga, g5]
        exact fin
    · by_cases gc : x - cx = 0
      · have hal : (zabs (x - cx) = 0 ∨ zabs (y - ry) = 0) ∨ zabs (x - cx) = zabs (y - ry) := by omega
        by_cases g5 : ways = 2
        · have nok : ¬ ((zabs (x - cx) = 0 ∨ zabs (y - ry) = 0) ∧ ways ≠ 2 ∨ zabs (x - cx) = zabs (y - ry) ∧ ways ≠ 1) := by omega
          rw [bad nok]
          simp (disch := omega) only [q_216_59, b_216_59, q_216_114, b_216_114, q_216_124, b_216_124, q_216_128, b_216_128, q_216_129, b_216_129, q_216_148, b_216_148, q_216_149, b_216_149, q_216_180, b_216_180, q_216_204, b_216_204, ↓w_iconst, ↓w_aload_n_0, ↓w_iload_n_1, ↓w_iload_n_2, ↓w_iload_n_3, ↓w_iload_4, ↓w_iload_5, ↓w_aload_6, ↓w_iload_7, ↓w_iload_8, ↓w_istore, ↓w_astore, ↓w_isub, ↓w_imul, ↓w_idiv, ↓w_irem, ↓w_getfield, ↓w_nop, ↓w_goto, ↓w_ifCond_eq, ↓w_if_icmp_eq, ↓w_ifCond_ne, ↓w_if_icmp_ne, ↓w_ireturn1, ↓w_invokestatic_1, ↓w_invokevirtual_1, ↓w_invokestatic_2, stw_0, stw_i, stw_l, stw_r, ofK0, ofK1, ofK2, lst1, lst2, lkill, kont_none, kont_some, Int.reduceToNat, List.length_cons, List.length_nil, Nat.reduceAdd, Nat.reduceLeDiff, Nat.zero_le, true_and, and_true, if_true, if_false, ne_eq, Int.reduceEq, Int.reduceNeg, not_false_eq_true, not_true_eq_false, ↓reduceIte, Int.reduceLT, Int.reduceLE, and_self, or_true, true_or, or_false, false_or, false_and, and_false, ah_t_w, ah_m_w, ah_n_w, lst1_0, List.tail_cons, w32_i, zbd, lst2_0, xt_1a hK, s_t hK hS, s_11 hK hS, c_82 hK m0 m1, kt, kw, t1, t2, t3, t4, g4, c_19, c_17, eq_true gc, ga, g5, zb, Bool.false_eq_true]
        · have ok : ((zabs (x - cx) = 0 ∨ zabs (y - ry) = 0) ∧ ways ≠ 2 ∨ zabs (x - cx) = zabs (y - ry) ∧ ways ≠ 1) := by omega
          rw [good ok]
          have fin := fin 1 0 hal
          simp (disch := omega) only [q_216_59, b_216_59, q_216_114, b_216_114, q_216_124, b_216_124, q_216_128, b_216_128, q_216_129, b_216_129, q_216_148, b_216_148, q_216_149, b_216_149, q_216_180, b_216_180, q_216_204, b_216_204, ↓w_iconst, ↓w_aload_n_0, ↓w_iload_n_1, ↓w_iload_n_2, ↓w_iload_n_3, ↓w_iload_4, ↓w_iload_5, ↓w_aload_6, ↓w_iload_7, ↓w_iload_8, ↓w_istore, ↓w_astore, ↓w_isub, ↓w_imul, ↓w_idiv, ↓w_irem, ↓w_getfield, ↓w_nop, ↓w_goto, ↓w_ifCond_eq, ↓w_if_icmp_eq, ↓w_ifCond_ne, ↓w_if_icmp_ne, ↓w_ireturn1, ↓w_invokestatic_1, ↓w_invokevirtual_1, ↓w_invokestatic_2, stw_0, stw_i, stw_l, stw_r, ofK0, ofK1, ofK2, lst1, lst2, lkill, kont_none, kont_some, Int.reduceToNat, List.length_cons, List.length_nil, Nat.reduceAdd, Nat.reduceLeDiff, Nat.zero_le, true_and, and_true, if_true, if_false, ne_eq, Int.reduceEq, Int.reduceNeg, not_false_eq_true, not_true_eq_false, ↓reduceIte, Int.reduceLT, Int.reduceLE, and_self, or_true, true_or, or_false, false_or, false_and, and_false, ah_t_w, ah_m_w, ah_n_w, lst1_0, List.tail_cons, w32_i, zbd, lst2_0, xt_1a hK, s_t hK hS, s_11 hK hS, c_82 hK m0 m1, kt, kw, t1, t2, t3, t4, g4, c_19, c_17, eq_true gc, ga, g5]
          exact fin
      · by_cases gv : y - ry = 0
        · have hal : (zabs (x - cx) = 0 ∨ zabs (y - ry) = 0) ∨ zabs (x - cx) = zabs (y - ry) := by omega
          by_cases g5 : ways = 2
          · have nok : ¬ ((zabs (x - cx) = 0 ∨ zabs (y - ry) = 0) ∧ ways ≠ 2 ∨ zabs (x - cx) = zabs (y - ry) ∧ ways ≠ 1) := by omega
            rw [bad nok]
            simp (disch := omega) only [q_216_59, b_216_59, q_216_114, b_216_114, q_216_124, b_216_124, q_216_128, b_216_128, q_216_129, b_216_129, q_216_148, b_216_148, q_216_149, b_216_149, q_216_180, b_216_180, q_216_204, b_216_204, ↓w_iconst, ↓w_aload_n_0, ↓w_iload_n_1, ↓w_iload_n_2, ↓w_iload_n_3, ↓w_iload_4, ↓w_iload_5, ↓w_aload_6, ↓w_iload_7, ↓w_iload_8, ↓w_istore, ↓w_astore, ↓w_isub, ↓w_imul, ↓w_idiv, ↓w_irem, ↓w_getfield, ↓w_nop, ↓w_goto, ↓w_ifCond_eq, ↓w_if_icmp_eq, ↓w_ifCond_ne, ↓w_if_icmp_ne, ↓w_ireturn1, ↓w_invokestatic_1, ↓w_invokevirtual_1, ↓w_invokestatic_2, stw_0, stw_i, stw_l, stw_r, ofK0, ofK1, ofK2, lst1, lst2, lkill, kont_none, kont_some, Int.reduceToNat, List.length_cons, List.length_nil, Nat.reduceAdd, Nat.reduceLeDiff, Nat.zero_le, true_and, and_true, if_true, if_false, ne_eq, Int.reduceEq, Int.reduceNeg, not_false_eq_true, not_true_eq_false, ↓reduceIte, Int.reduceLT, Int.reduceLE, and_self, or_true, true_or, or_false, false_or, false_and, and_false, ah_t_w, ah_m_w, ah_n_w, lst1_0, List.tail_cons, w32_i, zbd, lst2_0, xt_1a hK, s_t hK hS, s_11 hK hS, c_82 hK m0 m1, kt, kw, t1, t2, t3, t4, g4, c_19, c_17, gc, eq_true gv, ga, g5, zb, Bool.false_eq_true]
          · have ok : ((zabs (x - cx) = 0 ∨ zabs (y - ry) = 0) ∧ ways ≠ 2 ∨ zabs (x - cx) = zabs (y - ry) ∧ ways ≠ 1) := by omega
            rw [good ok]
            have fin := fin 1 0 hal
            simp (disch := omega) only [q_216_59, b_216_59, q_216_114, b_216_114, q_216_124, b_216_124, q_216_128, b_216_128, q_216_129, b_216_129, q_216_148, b_216_148, q_216_149, b_216_149, q_216_180, b_216_180, q_216_204, b_216_204, ↓w_iconst, ↓w_aload_n_0, ↓w_iload_n_1, ↓w_iload_n_2, ↓w_iload_n_3, ↓w_iload_4, ↓w_iload_5, ↓w_aload_6, ↓w_iload_7, ↓w_iload_8, ↓w_istore, ↓w_astore, ↓w_isub, ↓w_imul, ↓w_idiv, ↓w_irem, ↓w_getfield, ↓w_nop, ↓w_goto, ↓w_ifCond_eq, ↓w_if_icmp_eq, ↓w_ifCond_ne, ↓w_if_icmp_ne, ↓w_ireturn1, ↓w_invokestatic_1, ↓w_invokevirtual_1, ↓w_invokestatic_2, stw_0, stw_i, stw_l, stw_r, ofK0, ofK1, ofK2, lst1, lst2, lkill, kont_none, kont_some, Int.reduceToNat, List.length_cons, List.length_nil, Nat.reduceAdd, Nat.reduceLeDiff, Nat.zero_le, true_and, and_true, if_true, if_false, ne_eq, Int.reduceEq, Int.reduceNeg, not_false_eq_true, not_true_eq_false, ↓reduceIte, Int.reduceLT, Int.reduceLE, and_self, or_true, true_or, or_false, false_or, false_and, and_false, ah_t_w, ah_m_w, ah_n_w, lst1_0, List.tail_cons, w32_i, zbd, lst2_0, xt_1a hK, s_t hK hS, s_11 hK hS, c_82 hK m0 m1, kt, kw, t1, t2, t3, t4, g4, c_19, c_17, gc, eq_true gv, ga, g5]
            exact fin
        · have nok : ¬ ((zabs (x - cx) = 0 ∨ zabs (y - ry) = 0) ∧ ways ≠ 2 ∨ zabs (x - cx) = zabs (y - ry) ∧ ways ≠ 1) := by omega
          rw [bad nok]
          simp (disch := omega) only [q_216_59, b_216_59, q_216_114, b_216_114, q_216_124, b_216_124, q_216_128, b_216_128, q_216_129, b_216_129, q_216_148, b_216_148, q_216_149, b_216_149, q_216_180, b_216_180, q_216_204, b_216_204, ↓w_iconst, ↓w_aload_n_0, ↓w_iload_n_1, ↓w_iload_n_2, ↓w_iload_n_3, ↓w_iload_4, ↓w_iload_5, ↓w_aload_6, ↓w_iload_7, ↓w_iload_8, ↓w_istore, ↓w_astore, ↓w_isub, ↓w_imul, ↓w_idiv, ↓w_irem, ↓w_getfield, ↓w_nop, ↓w_goto, ↓w_ifCond_eq, ↓w_if_icmp_eq, ↓w_ifCond_ne, ↓w_if_icmp_ne, ↓w_ireturn1, ↓w_invokestatic_1, ↓w_invokevirtual_1, ↓w_invokestatic_2, stw_0, stw_i, stw_l, stw_r, ofK0, ofK1, ofK2, lst1, lst2, lkill, kont_none, kont_some, Int.reduceToNat, List.length_cons, List.length_nil, Nat.reduceAdd, Nat.reduceLeDiff, Nat.zero_le, true_and, and_true, if_true, if_false, ne_eq, Int.reduceEq, Int.reduceNeg, not_false_eq_true, not_true_eq_false, ↓reduceIte, Int.reduceLT, Int.reduceLE, and_self, or_true, true_or, or_false, false_or, false_and, and_false, ah_t_w, ah_m_w, ah_n_w, lst1_0, List.tail_cons, w32_i, zbd, lst2_0, xt_1a hK, s_t hK hS, s_11 hK hS, c_82 hK m0 m1, kt, kw, t1, t2, t3, t4, g4, c_19, c_17, gc, gv, ga, zb, Bool.false_eq_true]
  by_cases g3 : zman nw x y (zn T) 0 = -1
  · have ef : zfree nw (T 1076) (zn T) x y m = true := by unfold zfree; rw [g3]; rfl
    rw [ef, Bool.and_true]
    simp (disch := omega) only [q_216_0, b_216_0, ↓w_iconst, ↓w_aload_n_0, ↓w_iload_n_1, ↓w_iload_n_2, ↓w_iload_n_3, ↓w_istore_n_3, ↓w_getfield, ↓w_iaload, ↓w_nop, ↓w_if_icmp_eq, ↓w_if_icmp_ne, ↓w_invokevirtual_1, stw_0, stw_i, stw_l, stw_r, ofK0, ofK1, ofK2, lst1, lst2, lkill, kont_none, kont_some, Int.reduceToNat, List.length_cons, List.length_nil, Nat.reduceAdd, Nat.reduceLeDiff, Nat.zero_le, true_and, and_true, if_true, if_false, ne_eq, Int.reduceEq, Int.reduceNeg, not_false_eq_true, not_true_eq_false, ↓reduceIte, Int.reduceLT, Int.reduceLE, and_self, or_true, true_or, or_false, false_or, false_and, and_false, ah_t_w, ah_m_w, ah_n_w, lst1_0, List.tail_cons, w32_i, zbd, lst2_0, xt_1a hK, s_t hK hS, s_3 hK hS, s_3a hK hS, s_3b hK hS, s_4 hK hS, s_4a hK hS, s_4b hK hS, s_11 hK hS, ep, k0, k1, eo, g3]
    exact rest
  · have hq : 0 ≤ zman nw x y (zn T) 0 ∧ zman nw x y (zn T) 0 < T 1072 4 := by omega
    by_cases g4 : zs T (zman nw x y (zn T) 0) = zs T m
    · have ef : zfree nw (T 1076) (zn T) x y m = false := by unfold zfree; apply decide_eq_false; intro q; rcases q with q | q; exact g3 q; exact q g4
      rw [ef, Bool.and_false]
      simp (disch := omega) only [q_216_0, b_216_0, q_216_57, b_216_57, ↓w_iconst, ↓w_aload_n_0, ↓w_iload_n_1, ↓w_iload_n_2, ↓w_iload_n_3, ↓w_istore_n_3, ↓w_getfield, ↓w_iaload, ↓w_nop, ↓w_if_icmp_eq, ↓w_if_icmp_ne, ↓w_ireturn1, ↓w_invokevirtual_1, stw_0, stw_i, stw_l, stw_r, ofK0, ofK1, ofK2, lst1, lst2, lkill, kont_none, kont_some, Int.reduceToNat, List.length_cons, List.length_nil, Nat.reduceAdd, Nat.reduceLeDiff, Nat.zero_le, true_and, and_true, if_true, if_false, ne_eq, Int.reduceEq, Int.reduceNeg, not_false_eq_true, not_true_eq_false, ↓reduceIte, Int.reduceLT, Int.reduceLE, and_self, or_true, true_or, or_false, false_or, false_and, and_false, ah_t_w, ah_m_w, ah_n_w, lst1_0, List.tail_cons, w32_i, zbd, lst2_0, xt_1a hK, s_t hK hS, s_3 hK hS, s_3a hK hS, s_3b hK hS, s_4 hK hS, s_4a hK hS, s_4b hK hS, s_11 hK hS, ep, k0, k1, eo, g3, c_83 hK hq.1 hq.2, ma_t hK hq.1 hq.2, ma_2 hK hq.1 hq.2, c_83 hK m0 m1, ma_t hK m0 m1, ma_2 hK m0 m1, g4, zb, Bool.false_eq_true]
    · have ef : zfree nw (T 1076) (zn T) x y m = true := by unfold zfree; exact decide_eq_true (Or.inr g4)
      rw [ef, Bool.and_true]
      simp (disch := omega) only [q_216_0, b_216_0, ↓w_iconst, ↓w_aload_n_0, ↓w_iload_n_1, ↓w_iload_n_2, ↓w_iload_n_3, ↓w_istore_n_3, ↓w_getfield, ↓w_iaload, ↓w_nop, ↓w_if_icmp_eq, ↓w_if_icmp_ne, ↓w_invokevirtual_1, stw_0, stw_i, stw_l, stw_r, ofK0, ofK1, ofK2, lst1, lst2, lkill, kont_none, kont_some, Int.reduceToNat, List.length_cons, List.length_nil, Nat.reduceAdd, Nat.reduceLeDiff, Nat.zero_le, true_and, and_true, if_true, if_false, ne_eq, Int.reduceEq, Int.reduceNeg, not_false_eq_true, not_true_eq_false, ↓reduceIte, Int.reduceLT, Int.reduceLE, and_self, or_true, true_or, or_false, false_or, false_and, and_false, ah_t_w, ah_m_w, ah_n_w, lst1_0, List.tail_cons, w32_i, zbd, lst2_0, xt_1a hK, s_t hK hS, s_3 hK hS, s_3a hK hS, s_3b hK hS, s_4 hK hS, s_4a hK hS, s_4b hK hS, s_11 hK hS, ep, k0, k1, eo, g3, c_83 hK hq.1 hq.2, ma_t hK hq.1 hq.2, ma_2 hK hq.1 hq.2, c_83 hK m0 m1, ma_t hK m0 m1, ma_2 hK m0 m1, g4]
      exact rest
end X2
