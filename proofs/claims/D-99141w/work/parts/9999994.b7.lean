/-! ===== lists and builders that grow ===== -/
def LST (h : AH) (l n cap el : Int) : Prop := (ah_t h l = (3, 0) ∧ ah_m h l 1 = el ∧ ah_m h l 2 = n) ∧ ah_t h el = (-10, cap) ∧ (0 ≤ n ∧ n ≤ cap) ∧ (0 < l ∧ 0 < el ∧ l ≠ el)
section B7
variable {W' : Int → Int → Prop} {d : Nat} {h h' h1 h2 h0 : AH} {Q : QQ} {x y z k s a b c v n p q r o i f N lo hi A B E cap el l sp dp : Int} {S T T' : Int → Int → Int} {t nw nw' pt of tp : Int → Int} {tl : ALoc} {w u W : List Int}
set_option maxHeartbeats 4000000
theorem w_copy {m cc : Nat} {is : List AI} {L : ALoc} {st : AStk} {tt : List (Int × Int)} (hc : 0 < x ∧ 0 < y ∧ x ≠ y ∧ ((ah_t h x).1 = -2 ∨ ((ah_t h x).1 = -10 ∧ (List.range n.toNat).all (fun i => ah_m h x (sp + i) == 0 || (asc tt (ah_t h (ah_m h x (sp + i))).1).isSome) = true)) ∧ (ah_t h x).1 = (ah_t h y).1 ∧ 0 ≤ n ∧ 0 ≤ sp ∧ 0 ≤ dp ∧ sp + n ≤ (ah_t h x).2 ∧ dp + n ≤ (ah_t h y).2 ∧ stw st ≤ 8) :
    wpL d m ((.invokestatic cc, -1, b, tt) :: is) L (.inl n :: .inl dp :: .inr (.inr y) :: .inl sp :: .inr (.inr x) :: st) h Q ↔ wpL d m is L st (ah_row h y (fun j => if dp ≤ j ∧ j < dp + n then ah_m h x (sp + (j - dp)) else ah_m h y j)) Q := by
  have e : ∀ nn, exL (fun l => ex gP gML nn d m l) (rC nn d) ((.invokestatic cc, -1, b, tt) :: is) L (.inl n :: .inl dp :: .inr (.inr y) :: .inl sp :: .inr (.inr x) :: st) h = exL (fun l => ex gP gML nn d m l) (rC nn d) is L st (ah_row h y (fun j => if dp ≤ j ∧ j < dp + n then ah_m h x (sp + (j - dp)) else ah_m h y j)) := by
    intro nn
    have e1 : semCopy tt L (.inl n :: .inl dp :: .inr (.inr y) :: .inl sp :: .inr (.inr x) :: st) h = some (L, st, ah_row h y (fun j => if dp ≤ j ∧ j < dp + n then ah_m h x (sp + (j - dp)) else ah_m h y j)) := by
      simp only [semCopy]
      rw [if_pos hc]
    show (match semCopy tt L (.inl n :: .inl dp :: .inr (.inr y) :: .inl sp :: .inr (.inr x) :: st) h with | some (L, st, h) => exL (fun l => ex gP gML nn d m l) (rC nn d) is L st h | none => none) = _
    rw [e1]
  simp only [wpL, e]
theorem ah_m_row {g : Int → Int} : ah_m (ah_row h a g) r i = if r = a then g i else ah_m h r i := rfl
theorem ah_t_row {g : Int → Int} : ah_t (ah_row h a g) r = ah_t h r := rfl
theorem c_38 (tp : ah_t h p = (3, 0)) (p0 : 0 < p) (p1 : p < ah_n h) (hz : ah_m h p 2 = 0) (hc : 1 ≤ c ∧ c ≤ 100)
    (hQ : ∀ h', LST h' p 0 c (ah_n h) → Ext (fun r i => r = p) h h' → ah_n h' = ah_n h + 1 → ah_s h' = ah_s h + c → Q (.inl none) h') : wpC (d + 3) 38 [.inr (.inr p), .inl c] h Q := by
  have t1 : (ah_t h p).1 = 3 := by rw [tp]
  have c0 : 0 < c := by omega
  have c1 : 0 ≤ c := by omega
  have c2 : c ≤ 100000 := by omega
  have c21 : ∀ {d : Nat} {Q : QQ}, wpC (d + 2) 2 [.inr (.inr p)] h Q ↔ Q (.inl none) (ah_w h p 0 0) := by
    intro d Q
    have c1' : ∀ {d : Nat} {Q : QQ}, wpC (d + 1) 1 [.inr (.inr p)] h Q ↔ Q (.inl none) h := by
      intro d Q
      apply CT_iff; apply CT_of; rw [wpC_B]; refine ⟨⟨Nat.zero_lt_succ _, Nat.le_of_ble_eq_true rfl⟩, ?_⟩; simp only [lent]
      simp (disch := omega) only [q_1_0, b_1_0, ↓w_aload_n_0, ↓w_return, ↓w_objinit, stw_0, stw_i, stw_l, stw_r, ofK0, ofK1, ofK2, lst1, lst2, lkill, kont_none, kont_some, Int.reduceToNat, List.length_cons, List.length_nil, Nat.reduceAdd, Nat.reduceLeDiff, Nat.zero_le, true_and, and_true, if_true, if_false, ne_eq, Int.reduceEq, Int.reduceNeg, not_false_eq_true, not_true_eq_false, ↓reduceIte, Int.reduceLT, Int.reduceLE, and_self, or_true, true_or, or_false, false_or, false_and, and_false, ah_t_w, ah_m_w, ah_n_w, lst1_0, List.tail_cons, w32_i, zbd, lst2_0, p0]
    apply CT_iff; apply CT_of; rw [wpC_B]; refine ⟨⟨Nat.zero_lt_succ _, Nat.le_of_ble_eq_true rfl⟩, ?_⟩; simp only [lent]
    simp (disch := omega) only [q_2_0, b_2_0, ↓w_iconst, ↓w_aload_n_0, ↓w_putfield_0, ↓w_return, ↓w_invokespecial_0, stw_0, stw_i, stw_l, stw_r, ofK0, ofK1, ofK2, lst1, lst2, lkill, kont_none, kont_some, Int.reduceToNat, List.length_cons, List.length_nil, Nat.reduceAdd, Nat.reduceLeDiff, Nat.zero_le, true_and, and_true, if_true, if_false, ne_eq, Int.reduceEq, Int.reduceNeg, not_false_eq_true, not_true_eq_false, ↓reduceIte, Int.reduceLT, Int.reduceLE, and_self, or_true, true_or, or_false, false_or, false_and, and_false, ah_t_w, ah_m_w, ah_n_w, lst1_0, List.tail_cons, w32_i, zbd, lst2_0, t1, c1', p0]
  rw [wpC_B]; refine ⟨⟨Nat.zero_lt_succ _, Nat.le_of_ble_eq_true rfl⟩, ?_⟩; simp only [lent]
  simp (disch := omega) only [q_38_0, b_38_0, q_38_60, b_38_60, ↓w_aload_n_0, ↓w_iload_n_1, ↓w_putfield_2, ↓w_anewarray, ↓w_goto, ↓w_ifCond_le, ↓w_return, ↓w_invokespecial_0, stw_0, stw_i, stw_l, stw_r, ofK0, ofK1, ofK2, lst1, lst2, lkill, kont_none, kont_some, Int.reduceToNat, List.length_cons, List.length_nil, Nat.reduceAdd, Nat.reduceLeDiff, Nat.zero_le, true_and, and_true, if_true, if_false, ne_eq, Int.reduceEq, Int.reduceNeg, not_false_eq_true, not_true_eq_false, ↓reduceIte, Int.reduceLT, Int.reduceLE, and_self, or_true, true_or, or_false, false_or, false_and, and_false, ah_t_w, ah_m_w, ah_n_w, lst1_0, List.tail_cons, w32_i, zbd, lst2_0, t1, c21, c0, c1, c2, p0]
  generalize hP : ah_n h = P at *
  have hE1 : Ext (fun r i => r = p) h (ah_new (ah_w h p 0 0) (-10, c) c) := Ext_new (Ext_w Ext_rfl (Or.inl rfl)) (by omega)
  have tP : ah_t (ah_new (ah_w h p 0 0) (-10, c) c) P = (-10, c) := by rw [ah_t_new, ah_n_w, hP, if_pos rfl]
  have tp1 : ah_t (ah_new (ah_w h p 0 0) (-10, c) c) p = (3, 0) := by rw [ah_t_new, ah_n_w, hP, if_neg (by omega), ah_t_w]; exact tp
  have m2 : ah_m (ah_new (ah_w h p 0 0) (-10, c) c) p 2 = 0 := by rw [ah_m_new, ah_n_w, hP, if_neg (by omega), ah_m_w, if_neg (by omega)]; exact hz
  have n1 : ah_n (ah_new (ah_w h p 0 0) (-10, c) c) = P + 1 := by rw [ah_n_new, ah_n_w, hP]
  have s1 : ah_s (ah_new (ah_w h p 0 0) (-10, c) c) = ah_s h + c := by rw [ah_s_new, ah_s_w]
  generalize hg : ah_new (ah_w h p 0 0) (-10, c) c = g1 at *
  have tp1' : (ah_t g1 p).1 = 3 := by rw [tp1]
  simp (disch := omega) only [b_38_0, q_38_60, b_38_60, ↓w_aload_n_0, ↓w_iload_n_1, ↓w_putfield_2, ↓w_anewarray, ↓w_goto, ↓w_ifCond_le, ↓w_return, ↓w_invokespecial_0, stw_0, stw_i, stw_l, stw_r, ofK0, ofK1, ofK2, lst1, lst2, lkill, kont_none, kont_some, Int.reduceToNat, List.length_cons, List.length_nil, Nat.reduceAdd, Nat.reduceLeDiff, Nat.zero_le, true_and, and_true, if_true, if_false, ne_eq, Int.reduceEq, Int.reduceNeg, not_false_eq_true, not_true_eq_false, ↓reduceIte, Int.reduceLT, Int.reduceLE, and_self, or_true, true_or, or_false, false_or, false_and, and_false, ah_t_w, ah_m_w, ah_n_w, lst1_0, List.tail_cons, w32_i, zbd, lst2_0, tp1', p0]
  refine hQ _ ⟨⟨tp1, by rw [ah_m_w, if_pos ⟨rfl, rfl⟩], by rw [ah_m_w, if_neg (by omega)]; exact m2⟩, tP, by omega, by omega⟩ (Ext_w hE1 (Or.inl rfl)) n1 s1
theorem c_15 (h1 : 2 ≤ x ∧ x ≤ 10000) (h2 : 0 ≤ y ∧ y ≤ 10000) (h3 : 0 ≤ z ∧ z ≤ 100000) (hp : 1 ≤ (if y < z then z else y)) : wpC (d + 2) 15 [.inl x, .inl y, .inl z] h Q ↔ Q (.inl (some (.inl (x + (if y < z then z else y))))) h := by
  have b : 0 ≤ (if y < z then z else y) ∧ (if y < z then z else y) ≤ 100000 := by split <;> omega
  generalize hG : (if y < z then z else y) = G at *
  have g1 : ¬ x + G ≤ 0 := by omega
  have g1' : 0 < x + G := by omega
  have g2 : ¬ 2147483639 < x + G := by omega
  apply CT_iff; apply CT_of; rw [wpC_B]; refine ⟨⟨Nat.zero_lt_succ _, Nat.le_of_ble_eq_true rfl⟩, ?_⟩; simp only [lent]
  simp (disch := omega) only [q_15_0, b_15_0, ↓w_iconst, ↓w_ldc, ↓w_iload_n_0, ↓w_iload_n_1, ↓w_iload_n_2, ↓w_iload_n_3, ↓w_istore_n_3, ↓w_iadd, ↓w_if_icmp_ge, ↓w_if_icmp_gt, ↓w_ireturn0, ↓w_invokestatic_2, stw_0, stw_i, stw_l, stw_r, ofK0, ofK1, ofK2, lst1, lst2, lkill, kont_none, kont_some, Int.reduceToNat, List.length_cons, List.length_nil, Nat.reduceAdd, Nat.reduceLeDiff, Nat.zero_le, true_and, and_true, if_true, if_false, ne_eq, Int.reduceEq, Int.reduceNeg, not_false_eq_true, not_true_eq_false, ↓reduceIte, Int.reduceLT, Int.reduceLE, and_self, or_true, true_or, or_false, false_or, false_and, and_false, ah_t_w, ah_m_w, ah_n_w, lst1_0, List.tail_cons, w32_i, zbd, lst2_0, c_17, hG, g1, g1', g2]
theorem ishr_1 (h0 : 0 ≤ z) (h1 : z < 100000) : ishr_ z 1 = z / 2 := by
  obtain ⟨u, rfl⟩ : ∃ u : Nat, z = u := ⟨z.toNat, by omega⟩
  have := ishr_nat u (by omega) 1 (by decide)
  rw [show ((1 : Nat) : Int) = 1 from rfl] at this
  rw [this]; omega
/-- one more in a list -/
theorem c_42 (hF : FRE h) (hL : LST h l n cap el) (hcap : 2 ≤ cap ∧ cap ≤ 5000) (htg : ∀ i, 0 ≤ i → i < n → 1 ≤ (ah_t h (ah_m h el i)).1 ∧ (ah_t h (ah_m h el i)).1 ≤ 24) (hx : 1 ≤ (ah_t h x).1 ∧ (ah_t h x).1 ≤ 24)
    (hQ : ∀ h' cap' el', LST h' l (n + 1) cap' el' → (∀ i, 0 ≤ i → i < n → ah_m h' el' i = ah_m h el i) → ah_m h' el' n = x → Ext (fun r i => (r = l ∧ i ≤ 2) ∨ r = el) h h' → (el' = el ∨ ah_n h ≤ el') → ah_n h' ≤ ah_n h + 1 → ah_s h' + 4 * cap ≤ ah_s h + 4 * cap' → (cap' = cap ∨ (2 ≤ cap' ∧ cap' ≤ 2 * n)) → Q (.inl (some (.inl 1))) h') : wpC (d + 7) 42 [.inr (.inr l), .inr (.inr x)] h Q := by
  obtain ⟨⟨tl0, e1, e2⟩, te, hn, l0, el0, hle⟩ := hL
  have tl1 : (ah_t h l).1 = 3 := by rw [tl0]
  have teA : (ah_t h el).1 = -10 := by rw [te]
  have teN : (ah_t h el).1 < 0 := by rw [te]; exact (by decide : (-10 : Int) < 0)
  have teB : (ah_t h el).2 = cap := by rw [te]
  have lN : l < ah_n h := FRE_lt hF (by rw [tl0]; decide)
  have elN : el < ah_n h := FRE_lt hF (by rw [te]; exact (by decide : (-10 : Int) ≠ 0))
  have asx : ∀ t : Int, 1 ≤ t → t ≤ 24 → (asc [(1, 0), (2, 0), (3, 0), (4, 0), (5, 0), (6, 0), (7, 0), (8, 0), (9, 0), (10, 0), (11, 0), (12, 0), (13, 0), (14, 0), (15, 0), (16, 0), (17, 0), (18, 0), (19, 0), (20, 0), (21, 0), (22, 0), (23, 0), (24, 0)] t).isSome = true := by
    intro t h1 h2
    have : t = 1 ∨ t = 2 ∨ t = 3 ∨ t = 4 ∨ t = 5 ∨ t = 6 ∨ t = 7 ∨ t = 8 ∨ t = 9 ∨ t = 10 ∨ t = 11 ∨ t = 12 ∨ t = 13 ∨ t = 14 ∨ t = 15 ∨ t = 16 ∨ t = 17 ∨ t = 18 ∨ t = 19 ∨ t = 20 ∨ t = 21 ∨ t = 22 ∨ t = 23 ∨ t = 24 := by omega
    rcases this with e | e | e | e | e | e | e | e | e | e | e | e | e | e | e | e | e | e | e | e | e | e | e | e <;> subst e <;> rfl
  have asX := asx _ hx.1 hx.2
  rw [wpC_B]; refine ⟨⟨Nat.zero_lt_succ _, Nat.le_of_ble_eq_true rfl⟩, ?_⟩; simp only [lent]
  simp (disch := omega) only [q_42_0, b_42_0, ↓w_iconst, ↓w_aload_n_0, ↓w_aload_n_1, ↓w_dup_i, ↓w_dup_a, ↓w_iadd, ↓w_getfield, ↓w_putfield_0, ↓w_ireturn1, ↓w_invokevirtual_3, stw_0, stw_i, stw_l, stw_r, ofK0, ofK1, ofK2, lst1, lst2, lkill, kont_none, kont_some, Int.reduceToNat, List.length_cons, List.length_nil, Nat.reduceAdd, Nat.reduceLeDiff, Nat.zero_le, true_and, and_true, if_true, if_false, ne_eq, Int.reduceEq, Int.reduceNeg, not_false_eq_true, not_true_eq_false, ↓reduceIte, Int.reduceLT, Int.reduceLE, and_self, or_true, true_or, or_false, false_or, false_and, and_false, ah_t_w, ah_m_w, ah_n_w, lst1_0, List.tail_cons, w32_i, zbd, lst2_0, tl1, e1, e2, l0]
  have hO0 : Off (fun r i => r = l ∧ i ≤ 2) h (ah_w h l 0 (w32 (ah_m h l 0 + 1))) := Off_w Off_rfl (by omega)
  generalize hg0 : ah_w h l 0 (w32 (ah_m h l 0 + 1)) = g0 at *
  have m0 : ∀ r i, ¬ (r = l ∧ i = 0) → ah_m g0 r i = ah_m h r i := fun r i q => by rw [← hg0, ah_m_w, if_neg q]
  have T0 : ∀ r, ah_t g0 r = ah_t h r := fun r => by rw [← hg0, ah_t_w]
  have n0 : ah_n g0 = ah_n h := by rw [← hg0, ah_n_w]
  have s0 : ah_s g0 = ah_s h := by rw [← hg0, ah_s_w]
  have gl1 : (ah_t g0 l).1 = 3 := by rw [T0]; exact tl1
  have geN : (ah_t g0 el).1 < 0 := by rw [T0]; exact teN
  have geA : (ah_t g0 el).1 = -10 := by rw [T0]; exact teA
  have geB : (ah_t g0 el).2 = cap := by rw [T0]; exact teB
  have asX0 : (asc [(1, 0), (2, 0), (3, 0), (4, 0), (5, 0), (6, 0), (7, 0), (8, 0), (9, 0), (10, 0), (11, 0), (12, 0), (13, 0), (14, 0), (15, 0), (16, 0), (17, 0), (18, 0), (19, 0), (20, 0), (21, 0), (22, 0), (23, 0), (24, 0)] (ah_t g0 x).1).isSome = true := by rw [T0]; exact asX
  rw [wpC_B]; refine ⟨⟨Nat.zero_lt_succ _, Nat.le_of_ble_eq_true rfl⟩, ?_⟩; simp only [lent]
  by_cases g : n = cap
  · -- it grows
    have g1 : ah_m g0 l 1 = el := by rw [m0 _ _ (by omega)]; exact e1
    have g2 : ah_m g0 l 2 = n := by rw [m0 _ _ (by omega)]; exact e2
    have gc0 : 0 < cap := by omega
    have es := ishr_1 (z := cap) (by omega) (by omega)
    have emg : n + 1 - cap = 1 := by omega
    have emx : (if 1 < cap / 2 then cap / 2 else 1) = cap / 2 := by split <;> omega
    have c15 : ∀ {d : Nat} {Q : QQ}, wpC (d + 2) 15 [.inl cap, .inl 1, .inl (cap / 2)] g0 Q ↔ Q (.inl (some (.inl (cap + cap / 2)))) g0 := fun {d Q} => by
      rw [c_15 (by omega) (by omega) (by omega) (by rw [emx]; omega), emx]
    simp (disch := omega) only [q_43_0, b_43_0, ↓w_aload_n_0, ↓w_aload_n_2, ↓w_iload_n_3, ↓w_astore_n_2, ↓w_arraylength, ↓w_nop, ↓w_if_icmp_ne, ↓w_invokevirtual_0, stw_0, stw_i, stw_l, stw_r, ofK0, ofK1, ofK2, lst1, lst2, lkill, kont_none, kont_some, Int.reduceToNat, List.length_cons, List.length_nil, Nat.reduceAdd, Nat.reduceLeDiff, Nat.zero_le, true_and, and_true, if_true, if_false, ne_eq, Int.reduceEq, Int.reduceNeg, not_false_eq_true, not_true_eq_false, ↓reduceIte, Int.reduceLT, Int.reduceLE, and_self, or_true, true_or, or_false, false_or, false_and, and_false, ah_t_w, ah_m_w, ah_n_w, lst1_0, List.tail_cons, w32_i, zbd, lst2_0, geN, geB, eq_true g, gl1]
    rw [wpC_B]; refine ⟨⟨Nat.zero_lt_succ _, Nat.le_of_ble_eq_true rfl⟩, ?_⟩; simp only [lent]
    simp (disch := omega) only [q_44_0, b_44_0, ↓w_iconst, ↓w_aload_n_0, ↓w_iadd, ↓w_getfield, ↓w_areturn, ↓w_invokevirtual_1, stw_0, stw_i, stw_l, stw_r, ofK0, ofK1, ofK2, lst1, lst2, lkill, kont_none, kont_some, Int.reduceToNat, List.length_cons, List.length_nil, Nat.reduceAdd, Nat.reduceLeDiff, Nat.zero_le, true_and, and_true, if_true, if_false, ne_eq, Int.reduceEq, Int.reduceNeg, not_false_eq_true, not_true_eq_false, ↓reduceIte, Int.reduceLT, Int.reduceLE, and_self, or_true, true_or, or_false, false_or, false_and, and_false, ah_t_w, ah_m_w, ah_n_w, lst1_0, List.tail_cons, w32_i, zbd, lst2_0, gl1, g2]
    rw [wpC_B]; refine ⟨⟨Nat.zero_lt_succ _, Nat.le_of_ble_eq_true rfl⟩, ?_⟩; simp only [lent]
    simp (disch := omega) only [q_45_0, b_45_0, q_45_20, b_45_20, ↓w_iconst, ↓w_getstatic, ↓w_aload_n_0, ↓w_iload_n_1, ↓w_iload_n_2, ↓w_iload_n_3, ↓w_istore_n_2, ↓w_istore_n_3, ↓w_dup_x1, ↓w_dup_x1a, ↓w_isub, ↓w_ishr, ↓w_getfield, ↓w_putfield_2, ↓w_arraylength, ↓w_nop, ↓w_ifCond_gt, ↓w_acmp_eq, ↓w_areturn, ↓w_invokestatic_2, ↓w_invokestatic_3, stw_0, stw_i, stw_l, stw_r, ofK0, ofK1, ofK2, lst1, lst2, lkill, kont_none, kont_some, Int.reduceToNat, List.length_cons, List.length_nil, Nat.reduceAdd, Nat.reduceLeDiff, Nat.zero_le, true_and, and_true, if_true, if_false, ne_eq, Int.reduceEq, Int.reduceNeg, not_false_eq_true, not_true_eq_false, ↓reduceIte, Int.reduceLT, Int.reduceLE, and_self, or_true, true_or, or_false, false_or, false_and, and_false, ah_t_w, ah_m_w, ah_n_w, lst1_0, List.tail_cons, w32_i, zbd, lst2_0, gl1, g1, geN, geB, gc0, emg, es, c15]
    rw [wpC_B]; refine ⟨⟨Nat.zero_lt_succ _, Nat.le_of_ble_eq_true rfl⟩, ?_⟩; simp only [lent]
    simp (disch := omega) only [q_23_0, b_23_0, ↓w_aload_n_0, ↓w_iload_n_1, ↓w_areturn, ↓w_invokestatic_3, ↓w_getclass, stw_0, stw_i, stw_l, stw_r, ofK0, ofK1, ofK2, lst1, lst2, lkill, kont_none, kont_some, Int.reduceToNat, List.length_cons, List.length_nil, Nat.reduceAdd, Nat.reduceLeDiff, Nat.zero_le, true_and, and_true, if_true, if_false, ne_eq, Int.reduceEq, Int.reduceNeg, not_false_eq_true, not_true_eq_false, ↓reduceIte, Int.reduceLT, Int.reduceLE, and_self, or_true, true_or, or_false, false_or, false_and, and_false, ah_t_w, ah_m_w, ah_n_w, lst1_0, List.tail_cons, w32_i, zbd, lst2_0, geA]
    rw [wpC_B]; refine ⟨⟨Nat.zero_lt_succ _, Nat.le_of_ble_eq_true rfl⟩, ?_⟩; simp only [lent]
    have b0 : 0 ≤ cap + cap / 2 := by omega
    have b1 : cap + cap / 2 ≤ 100000 := by omega
    simp (disch := omega) only [q_24_0, b_24_0, ↓w_ldc, ↓w_iload_n_1, ↓w_aload_n_2, ↓w_anewarray, ↓w_goto, ↓w_acmp_ne, stw_0, stw_i, stw_l, stw_r, ofK0, ofK1, ofK2, lst1, lst2, lkill, kont_none, kont_some, Int.reduceToNat, List.length_cons, List.length_nil, Nat.reduceAdd, Nat.reduceLeDiff, Nat.zero_le, true_and, and_true, if_true, if_false, ne_eq, Int.reduceEq, Int.reduceNeg, not_false_eq_true, not_true_eq_false, ↓reduceIte, Int.reduceLT, Int.reduceLE, and_self, or_true, true_or, or_false, false_or, false_and, and_false, ah_t_w, ah_m_w, ah_n_w, lst1_0, List.tail_cons, w32_i, zbd, lst2_0, b0, b1]
    generalize hP : ah_n g0 = P at *
    have P1 : 1121 ≤ P := by have := hF.1; omega
    have hE1 : Ext (fun r i => (r = l ∧ i ≤ 2) ∨ r = el) h (ah_new g0 (-10, cap + cap / 2) (cap + cap / 2)) := Ext_new (Ext_off (Off_mono (fun r i w => Or.inl w) hO0)) b0
    have T1 : ∀ r, r < P → ah_t (ah_new g0 (-10, cap + cap / 2) (cap + cap / 2)) r = ah_t h r := fun r q => by rw [ah_t_new, hP, if_neg (by omega), T0]
    have tP : ah_t (ah_new g0 (-10, cap + cap / 2) (cap + cap / 2)) P = (-10, cap + cap / 2) := by rw [ah_t_new, hP, if_pos rfl]
    have M1 : ∀ r i, r < P → ah_m (ah_new g0 (-10, cap + cap / 2) (cap + cap / 2)) r i = ah_m g0 r i := fun r i q => by rw [ah_m_new, hP, if_neg (by omega)]
    have n1 : ah_n (ah_new g0 (-10, cap + cap / 2) (cap + cap / 2)) = P + 1 := by rw [ah_n_new, hP]
    have s1 : ah_s (ah_new g0 (-10, cap + cap / 2) (cap + cap / 2)) = ah_s h + (cap + cap / 2) := by rw [ah_s_new, s0]
    generalize hgg : ah_new g0 (-10, cap + cap / 2) (cap + cap / 2) = g3 at *
    have t3A : (ah_t g3 el).1 = -10 := by rw [T1 _ (by omega)]; exact teA
    have t3N : (ah_t g3 el).1 < 0 := by rw [T1 _ (by omega)]; exact teN
    have t3B : (ah_t g3 el).2 = cap := by rw [T1 _ (by omega)]; exact teB
    have tP1 : (ah_t g3 P).1 = -10 := by rw [tP]
    have tP2 : (ah_t g3 P).2 = cap + cap / 2 := by rw [tP]
    have c18 : ∀ {d : Nat} {Q : QQ}, wpC (d + 1) 18 [.inl cap, .inl (cap + cap / 2)] g3 Q ↔ Q (.inl (some (.inl cap))) g3 := fun {d Q} => by rw [c_18, if_neg (by omega)]
    have elM : ∀ i, ah_m g3 el i = ah_m h el i := fun i => by rw [M1 _ _ (by omega), m0 _ _ (by omega)]
    simp (disch := omega) only [q_24_24, b_24_24, ↓w_iconst, ↓w_aload_n_0, ↓w_iload_n_1, ↓w_aload_n_3, ↓w_astore_n_3, ↓w_arraylength, ↓w_areturn, ↓w_invokestatic_0, ↓w_invokestatic_2, stw_0, stw_i, stw_l, stw_r, ofK0, ofK1, ofK2, lst1, lst2, lkill, kont_none, kont_some, Int.reduceToNat, List.length_cons, List.length_nil, Nat.reduceAdd, Nat.reduceLeDiff, Nat.zero_le, true_and, and_true, if_true, if_false, ne_eq, Int.reduceEq, Int.reduceNeg, not_false_eq_true, not_true_eq_false, ↓reduceIte, Int.reduceLT, Int.reduceLE, and_self, or_true, true_or, or_false, false_or, false_and, and_false, ah_t_w, ah_m_w, ah_n_w, lst1_0, List.tail_cons, w32_i, zbd, lst2_0, t3N, t3B, c18]
    rw [w_copy (by
      refine ⟨el0, by omega, by omega, Or.inr ⟨t3A, ?_⟩, by rw [t3A, tP1], by omega, by omega, by omega, by rw [t3B]; omega, by rw [tP2]; omega, by simp [stw]⟩
      rw [List.all_eq_true]
      intro i hi
      rw [List.mem_range] at hi
      have ht := htg i (by omega) (by omega)
      rw [Int.zero_add, elM]
      have hlt : ah_m h el i < ah_n h := FRE_lt hF (by omega)
      rw [T1 _ (by omega), asx _ ht.1 ht.2, Bool.or_true])]
    generalize hg4 : ah_row g3 P (fun j => if 0 ≤ j ∧ j < 0 + cap then ah_m g3 el (0 + (j - 0)) else ah_m g3 P j) = g4
    have T4 : ∀ r, ah_t g4 r = ah_t g3 r := fun r => by rw [← hg4, ah_t_row]
    have M4 : ∀ r i, r ≠ P → ah_m g4 r i = ah_m g3 r i := fun r i q => by rw [← hg4, ah_m_row, if_neg q]
    have P4 : ∀ i, 0 ≤ i → i < cap → ah_m g4 P i = ah_m h el i := fun i a b => by rw [← hg4, ah_m_row, if_pos rfl, if_pos (by omega), Int.zero_add, Int.sub_zero, elM]
    have n4 : ah_n g4 = P + 1 := by rw [← hg4]; exact n1
    have s4 : ah_s g4 = ah_s h + (cap + cap / 2) := by rw [← hg4]; exact s1
    have hE4 : Ext (fun r i => (r = l ∧ i ≤ 2) ∨ r = el) h g4 := by
      refine ⟨⟨by omega, by omega⟩, fun r q => by rw [T4]; exact hE1.2.1 r (by rw [n1]; omega), fun r i q w => by rw [M4 _ _ (by omega)]; exact hE1.2.2 r i q w⟩
    have l4 : (ah_t g4 l).1 = 3 := by rw [T4, T1 _ (by omega)]; exact tl1
    have p4A : (ah_t g4 P).1 = -10 := by rw [T4]; exact tP1
    have p4B : (ah_t g4 P).2 = cap + cap / 2 := by rw [T4]; exact tP2
    have pP : 0 < P := by omega
    have nb : 0 ≤ n := hn.1
    have nc : n < cap + cap / 2 := by omega
    have xl : x < ah_n h := FRE_lt hF (by omega)
    have asX4 : (asc [(1, 0), (2, 0), (3, 0), (4, 0), (5, 0), (6, 0), (7, 0), (8, 0), (9, 0), (10, 0), (11, 0), (12, 0), (13, 0), (14, 0), (15, 0), (16, 0), (17, 0), (18, 0), (19, 0), (20, 0), (21, 0), (22, 0), (23, 0), (24, 0)] (ah_t g4 x).1).isSome = true := by rw [T4, T1 _ (by omega)]; exact asX
    simp (disch := omega) only [b_24_24, b_23_0, b_45_20, b_44_0, b_43_0, q_43_11, b_43_11, b_42_0, ↓w_iconst, ↓w_aload_n_0, ↓w_iload_n_1, ↓w_aload_n_1, ↓w_iload_n_2, ↓w_aload_n_2, ↓w_iload_n_3, ↓w_aload_n_3, ↓w_istore_n_3, ↓w_astore_n_2, ↓w_astore_n_3, ↓w_dup_i, ↓w_dup_a, ↓w_dup_x1, ↓w_dup_x1a, ↓w_iadd, ↓w_isub, ↓w_ishr, ↓w_getfield, ↓w_putfield_0, ↓w_putfield_2, ↓w_arraylength, ↓w_aastore, ↓w_nop, ↓w_if_icmp_ne, ↓w_return, ↓w_areturn, ↓w_ireturn1, ↓w_invokestatic_0, ↓w_invokevirtual_0, ↓w_invokevirtual_1, ↓w_invokestatic_2, ↓w_invokestatic_3, ↓w_invokevirtual_3, ↓w_getclass, stw_0, stw_i, stw_l, stw_r, ofK0, ofK1, ofK2, lst1, lst2, lkill, kont_none, kont_some, Int.reduceToNat, List.length_cons, List.length_nil, Nat.reduceAdd, Nat.reduceLeDiff, Nat.zero_le, true_and, and_true, if_true, if_false, ne_eq, Int.reduceEq, Int.reduceNeg, not_false_eq_true, not_true_eq_false, ↓reduceIte, Int.reduceLT, Int.reduceLE, and_self, or_true, true_or, or_false, false_or, false_and, and_false, ah_t_w, ah_m_w, ah_n_w, lst1_0, List.tail_cons, w32_i, zbd, lst2_0, l4, l0, p4A, p4B, pP, nb, nc, asX4]
    generalize hg7 : ah_w (ah_w (ah_w g4 l 1 P) P n x) l 2 (n + 1) = g7
    have hE7 : Ext (fun r i => (r = l ∧ i ≤ 2) ∨ r = el) h g7 := by rw [← hg7]; exact Ext_w (Ext_w (Ext_w hE4 (Or.inl (Or.inl ⟨rfl, by omega⟩))) (Or.inr (by omega))) (Or.inl (Or.inl ⟨rfl, by omega⟩))
    refine hQ g7 (cap + cap / 2) P ⟨⟨?_, ?_, ?_⟩, ?_, by omega, by omega⟩ (fun i a b => ?_) ?_ hE7 (Or.inr (by omega)) (by rw [← hg7]; show ah_n g4 ≤ _; omega) (by rw [← hg7]; show ah_s g4 + _ ≤ _; omega) (Or.inr ⟨by omega, by omega⟩)
    · rw [← hg7]; show ah_t g4 l = _; rw [T4, T1 _ (by omega)]; exact tl0
    · rw [← hg7, ah_m_w, if_neg (by omega), ah_m_w, if_neg (by omega), ah_m_w, if_pos ⟨rfl, rfl⟩]
    · rw [← hg7, ah_m_w, if_pos ⟨rfl, rfl⟩]
    · rw [← hg7]; show ah_t g4 P = _; rw [T4]; exact tP
    · rw [← hg7, ah_m_w, if_neg (by omega), ah_m_w, if_neg (by omega), ah_m_w, if_neg (by omega)]; exact P4 i a (by omega)
    · rw [← hg7, ah_m_w, if_neg (by omega), ah_m_w, if_pos ⟨rfl, rfl⟩]
  · have nb : 0 ≤ n := hn.1
    have nc : n < cap := by omega
    simp (disch := omega) only [q_43_0, b_43_0, q_43_11, b_43_11, b_42_0, ↓w_iconst, ↓w_aload_n_0, ↓w_aload_n_1, ↓w_aload_n_2, ↓w_iload_n_3, ↓w_astore_n_2, ↓w_dup_i, ↓w_dup_a, ↓w_iadd, ↓w_getfield, ↓w_putfield_0, ↓w_arraylength, ↓w_aastore, ↓w_nop, ↓w_if_icmp_ne, ↓w_return, ↓w_ireturn1, ↓w_invokevirtual_0, ↓w_invokevirtual_3, stw_0, stw_i, stw_l, stw_r, ofK0, ofK1, ofK2, lst1, lst2, lkill, kont_none, kont_some, Int.reduceToNat, List.length_cons, List.length_nil, Nat.reduceAdd, Nat.reduceLeDiff, Nat.zero_le, true_and, and_true, if_true, if_false, ne_eq, Int.reduceEq, Int.reduceNeg, not_false_eq_true, not_true_eq_false, ↓reduceIte, Int.reduceLT, Int.reduceLE, and_self, or_true, true_or, or_false, false_or, false_and, and_false, ah_t_w, ah_m_w, ah_n_w, lst1_0, List.tail_cons, w32_i, zbd, lst2_0, geN, geA, geB, eq_false g, gl1, asX0, el0, nb, nc, l0]
    generalize hg7 : ah_w (ah_w g0 el n x) l 2 (n + 1) = g7
    have hE7 : Ext (fun r i => (r = l ∧ i ≤ 2) ∨ r = el) h g7 := by rw [← hg7]; exact Ext_w (Ext_w (Ext_off (Off_mono (fun r i w => Or.inl w) hO0)) (Or.inl (Or.inr rfl))) (Or.inl (Or.inl ⟨rfl, by omega⟩))
    refine hQ g7 cap el ⟨⟨?_, ?_, ?_⟩, ?_, by omega, l0, el0, hle⟩ (fun i a b => ?_) ?_ hE7 (Or.inl rfl) (by rw [← hg7]; show ah_n g0 ≤ _; omega) (by rw [← hg7]; show ah_s g0 + _ ≤ _; omega) (Or.inl rfl)
    · rw [← hg7]; show ah_t g0 l = _; rw [T0]; exact tl0
    · rw [← hg7, ah_m_w, if_neg (by omega), ah_m_w, if_neg (by omega), m0 _ _ (by omega)]; exact e1
    · rw [← hg7, ah_m_w, if_pos ⟨rfl, rfl⟩]
    · rw [← hg7]; show ah_t g0 el = _; rw [T0]; exact te
    · rw [← hg7, ah_m_w, if_neg (by omega), ah_m_w, if_neg (by omega), m0 _ _ (by omega)]
    · rw [← hg7, ah_m_w, if_neg (by omega), ah_m_w, if_pos ⟨rfl, rfl⟩]
end B7
