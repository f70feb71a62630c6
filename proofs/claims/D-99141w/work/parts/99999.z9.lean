/-! ===== X: reached ===== -/
def zplf (tp : Int → Int) (fr m : Int) : Int := if tp (fr + 2 * m) = 255 ∧ tp (fr + 2 * m + 1) = 255 then -1 else 5 * tp (fr + 2 * m + 1) + tp (fr + 2 * m)
section Z9
variable {W : Int → Int → Prop} {d : Nat} {h h' h1 h0 : AH} {Q : QQ} {x y z m k s l w a b v n p r o i f D0 D1 rm fr R : Int} {S T T' : Int → Int → Int} {t nw nw' pt of tp sr hm g : Int → Int} {tl : ALoc} {c : Int × Int × Int}
set_option maxHeartbeats 4000000
theorem c_94 (u : Nat) (hu : u < 2 ^ 25) (p : Nat) (hp : p < 25) : wpC (d + 1) 94 [.inl (u : Int), .inl (p : Int)] h Q ↔ Q (.inl (some (.inl (if u.testBit p = true then 1 else 0)))) h := by
  have e := bit_1 u (by omega) p (by omega)
  by_cases g : u.testBit p = true
  · rw [if_pos g] at e ⊢
    apply CT_iff; apply CT_of; rw [wpC_B]; refine ⟨⟨Nat.zero_lt_succ _, Nat.le_of_ble_eq_true rfl⟩, ?_⟩; simp only [lent]
    simp (disch := omega) only [q_94_0, b_94_0, q_94_13, b_94_13, q_94_14, b_94_14, ↓w_iconst, ↓w_iload_n_0, ↓w_iload_n_1, ↓w_iand, ↓w_ishr, ↓w_nop, ↓w_goto, ↓w_if_icmp_ne, ↓w_ireturn1, stw_0, stw_i, stw_l, stw_r, ofK0, ofK1, ofK2, lst1, lst2, lkill, kont_none, kont_some, Int.reduceToNat, List.length_cons, List.length_nil, Nat.reduceAdd, Nat.reduceLeDiff, Nat.zero_le, true_and, and_true, if_true, if_false, ne_eq, Int.reduceEq, Int.reduceNeg, not_false_eq_true, not_true_eq_false, ↓reduceIte, Int.reduceLT, Int.reduceLE, and_self, or_true, true_or, or_false, false_or, false_and, and_false, ah_t_w, ah_m_w, ah_n_w, lst1_0, List.tail_cons, w32_i, zbd, lst2_0, e]
  · rw [if_neg g] at e ⊢
    apply CT_iff; apply CT_of; rw [wpC_B]; refine ⟨⟨Nat.zero_lt_succ _, Nat.le_of_ble_eq_true rfl⟩, ?_⟩; simp only [lent]
    simp (disch := omega) only [q_94_0, b_94_0, q_94_13, b_94_13, q_94_14, b_94_14, ↓w_iconst, ↓w_iload_n_0, ↓w_iload_n_1, ↓w_iand, ↓w_ishr, ↓w_nop, ↓w_goto, ↓w_if_icmp_ne, ↓w_ireturn1, stw_0, stw_i, stw_l, stw_r, ofK0, ofK1, ofK2, lst1, lst2, lkill, kont_none, kont_some, Int.reduceToNat, List.length_cons, List.length_nil, Nat.reduceAdd, Nat.reduceLeDiff, Nat.zero_le, true_and, and_true, if_true, if_false, ne_eq, Int.reduceEq, Int.reduceNeg, not_false_eq_true, not_true_eq_false, ↓reduceIte, Int.reduceLT, Int.reduceLE, and_self, or_true, true_or, or_false, false_or, false_and, and_false, ah_t_w, ah_m_w, ah_n_w, lst1_0, List.tail_cons, w32_i, zbd, lst2_0, e]
theorem zdup_iff : ∀ (j : Nat) (k : Int), zdup tp fr x y j k = true ↔ ∃ u, k ≤ u ∧ u < k + j ∧ tp (fr + 2 * u) = x ∧ tp (fr + 2 * u + 1) = y := by
  intro j
  induction j with
  | zero => intro k; simp only [zdup]; constructor; intro q; cases q; rintro ⟨u, h1, h2, _⟩; omega
  | succ j ih =>
    intro k
    simp only [zdup]
    by_cases e : tp (fr + 2 * k) = x ∧ tp (fr + 2 * k + 1) = y
    · rw [if_pos e]; exact ⟨fun _ => ⟨k, by omega, by omega, e⟩, fun _ => rfl⟩
    · rw [if_neg e, ih]
      constructor
      · rintro ⟨u, h1, h2, h3⟩; exact ⟨u, by omega, by omega, h3⟩
      · rintro ⟨u, h1, h2, h3⟩
        by_cases q : u = k
        · rw [q] at h3; exact absurd h3 e
        · exact ⟨u, by omega, by omega, h3⟩
theorem l_131 (hK : XG T h) (hT : XTp tp n h) (hv : TPV tp n) (hR : R = 118 ∨ R = 71) (tR : ah_t h R = (-1, 8)) (f0 : 0 ≤ fr) (hn : fr + 2 * T 1072 4 ≤ n)
    (hQ0 : ∀ h', zam T tp fr (zn T) 0 = false → Off (fun r i => r = R) h h' → Q (.inl (some (.inl 0))) h')
    (hQ1 : ∀ h', zam T tp fr (zn T) 0 = true → Off (fun r i => r = R) h h' → (∀ m, 0 ≤ m → m < T 1072 4 → ah_m h' R m = zplf tp fr m) → Q (.inl (some (.inl 1))) h') :
    ∀ (j : Nat) (m : Int) (U : Nat) tl h', 0 ≤ m → m + j = T 1072 4 → U < 2 ^ 25 → Off (fun r i => r = R) h h' → (∀ u, 0 ≤ u → u < m → ah_m h' R u = zplf tp fr u ∧ ((tp (fr + 2 * u) = 255 ∧ tp (fr + 2 * u + 1) = 255) ∨ (tp (fr + 2 * u) < T 1074 4 ∧ tp (fr + 2 * u + 1) < T 1074 5))) → (∀ p : Nat, p < 25 → (U.testBit p = true ↔ ∃ u, 0 ≤ u ∧ u < m ∧ zplf tp fr u = p)) → zam T tp fr j m = zam T tp fr (zn T) 0 → wpB (d + 2) 131 5 (some (.inr (.inr 1)) :: some (.inl fr) :: some (.inr (.inr R)) :: some (.inl U) :: some (.inl m) :: tl) [] h' Q := by
  have n8 := hK.2.2.2.1
  have n16 := hv.1.2
  have hC := hK.2.2.2.2.2.1; have hR5 := hK.2.2.2.2.2.2.1
  have ok : ∀ r i, (r = R) → ¬ fix r i ∧ ¬ BRr r ∧ ¬ (r = 1 ∧ i = 0) := fun r i w => by unfold fix BRr isS isV; omega
  have R0 : 0 < R := by omega
  intro j
  induction j with
  | zero =>
    intro m U tl h' m0 m1 hU hO hu ht hz
    have hK' := XG_off hK hO ok
    have hlt : ¬ m < T 1072 4 := by omega
    simp only [zam] at hz
    simp (disch := omega) only [q_131_5, b_131_5, q_131_117, b_131_117, ↓w_iconst, ↓w_sipush, ↓w_aload_n_0, ↓w_iload_n_1, ↓w_aload_n_2, ↓w_iload_4, ↓w_iload_5, ↓w_iload_6, ↓w_istore, ↓w_iadd, ↓w_imul, ↓w_iastore, ↓w_goto, ↓w_if_icmp_ne, ↓w_if_icmp_ge, ↓w_ireturn1, ↓w_invokevirtual_0, ↓w_invokevirtual_1, stw_0, stw_i, stw_l, stw_r, ofK0, ofK1, ofK2, lst1, lst2, lkill, kont_none, kont_some, Int.reduceToNat, List.length_cons, List.length_nil, Nat.reduceAdd, Nat.reduceLeDiff, Nat.zero_le, true_and, and_true, if_true, if_false, ne_eq, Int.reduceEq, Int.reduceNeg, not_false_eq_true, not_true_eq_false, ↓reduceIte, Int.reduceLT, Int.reduceLE, and_self, or_true, true_or, or_false, false_or, false_and, and_false, ah_t_w, ah_m_w, ah_n_w, lst1_0, List.tail_cons, w32_i, zbd, lst2_0, xt_1a hK', c_81 hK', hlt]
    exact hQ1 h' hz.symm hO (fun u u0 u1 => (hu u u0 (by omega)).1)
  | succ j ih =>
    intro m U tl h' m0 m1 hU hO hu ht hz
    have hK' := XG_off hK hO ok
    have hT' := XT_off hT hO (fun r i w => by omega)
    have hlt : m < T 1072 4 := by omega
    have m8 : m < 8 := by omega
    have tR1 : (ah_t h' R).1 = -1 := by rw [Off_t hO, tR]
    have tR2 : (ah_t h' R).2 = 8 := by rw [Off_t hO, tR]
    have bx := hv.2 (fr + 2 * m) (by omega) (by omega)
    have by' := hv.2 (fr + 2 * m + 1) (by omega) (by omega)
    have c1 : ∀ {Q : QQ}, wpC (d + 2) 126 [.inr (.inr 1), .inl (fr + 2 * m)] h' Q ↔ _ := fun {Q} => c_126 (d := d + 1) hK' hT' (by omega) (show fr + 2 * m < n by omega) n16
    have c2 : ∀ {Q : QQ}, wpC (d + 2) 126 [.inr (.inr 1), .inl (fr + 2 * m + 1)] h' Q ↔ _ := fun {Q} => c_126 (d := d + 1) hK' hT' (by omega) (show fr + 2 * m + 1 < n by omega) n16
    simp only [zam] at hz
    rw [q_131_5]
    have hO1 : Off (fun r i => r = R) h (ah_w h' R m (-1)) := Off_w hO rfl
    have hu1 : ∀ u, 0 ≤ u → u < m → ah_m (ah_w h' R m (-1)) R u = zplf tp fr u ∧ ((tp (fr + 2 * u) = 255 ∧ tp (fr + 2 * u + 1) = 255) ∨ (tp (fr + 2 * u) < T 1074 4 ∧ tp (fr + 2 * u + 1) < T 1074 5)) := fun u u0 u1 => by rw [ah_m_w, if_neg (by omega)]; exact hu u u0 u1
    by_cases g : tp (fr + 2 * m) = 255 ∧ tp (fr + 2 * m + 1) = 255
    · rw [if_pos g] at hz
      have ez : zplf tp fr m = -1 := by unfold zplf; rw [if_pos g]
      have g1 := g.1; have g2 := g.2
      simp (disch := omega) only [b_131_5, q_131_111, b_131_111, ↓w_iconst, ↓w_sipush, ↓w_aload_n_0, ↓w_iload_n_1, ↓w_aload_n_2, ↓w_iload_4, ↓w_iinc_4, ↓w_iload_5, ↓w_iload_6, ↓w_istore, ↓w_iadd, ↓w_imul, ↓w_iastore, ↓w_goto, ↓w_if_icmp_ne, ↓w_if_icmp_ge, ↓w_invokevirtual_0, ↓w_invokevirtual_1, stw_0, stw_i, stw_l, stw_r, ofK0, ofK1, ofK2, lst1, lst2, lkill, kont_none, kont_some, Int.reduceToNat, List.length_cons, List.length_nil, Nat.reduceAdd, Nat.reduceLeDiff, Nat.zero_le, true_and, and_true, if_true, if_false, ne_eq, Int.reduceEq, Int.reduceNeg, not_false_eq_true, not_true_eq_false, ↓reduceIte, Int.reduceLT, Int.reduceLE, and_self, or_true, true_or, or_false, false_or, false_and, and_false, ah_t_w, ah_m_w, ah_n_w, lst1_0, List.tail_cons, w32_i, zbd, lst2_0, xt_1a hK', c_81 hK', hlt, c1, c2, g1, g2, R0, tR1, tR2, m0, m8]
      refine ih (m + 1) U _ _ (by omega) (by omega) hU hO1 (fun u u0 u1 => ?_) (fun p hp => ?_) hz
      · by_cases q : u = m
        · rw [q, ez, ah_m_w, if_pos ⟨rfl, rfl⟩]; exact ⟨rfl, Or.inl g⟩
        · exact hu1 u u0 (by omega)
      · rw [ht p hp]
        constructor
        · rintro ⟨u, a, b, c⟩; exact ⟨u, a, by omega, c⟩
        · rintro ⟨u, a, b, c⟩
          by_cases q : u = m
          · rw [q, ez] at c; omega
          · exact ⟨u, a, by omega, c⟩
    · rw [if_neg g] at hz
      have ez : zplf tp fr m = 5 * tp (fr + 2 * m + 1) + tp (fr + 2 * m) := by unfold zplf; rw [if_neg g]
      have hK1 := XG_off hK hO1 ok
      -- to 64
      have to64 : ∀ {Q : QQ} tl, wpB (d + 2) 131 64 (some (.inr (.inr 1)) :: some (.inl fr) :: some (.inr (.inr R)) :: some (.inl U) :: some (.inl m) :: some (.inl (tp (fr + 2 * m))) :: some (.inl (tp (fr + 2 * m + 1))) :: tl) [] (ah_w h' R m (-1)) Q → ∀ tl2, tl2.tail.tail = tl → wpL (d + 2) 131 b_131_5 (some (.inr (.inr 1)) :: some (.inl fr) :: some (.inr (.inr R)) :: some (.inl U) :: some (.inl m) :: tl2) [] h' Q := by
        intro Q tl hh tl2 e2
        by_cases g1 : tp (fr + 2 * m) = 255
        · have g2 : ¬ tp (fr + 2 * m + 1) = 255 := fun q => g ⟨g1, q⟩
          rw [g1] at hh
          simp (disch := omega) only [b_131_5, ↓w_iconst, ↓w_sipush, ↓w_aload_n_0, ↓w_iload_n_1, ↓w_aload_n_2, ↓w_iload_4, ↓w_iload_5, ↓w_iload_6, ↓w_istore, ↓w_iadd, ↓w_imul, ↓w_iastore, ↓w_goto, ↓w_if_icmp_ne, ↓w_if_icmp_ge, ↓w_invokevirtual_0, ↓w_invokevirtual_1, stw_0, stw_i, stw_l, stw_r, ofK0, ofK1, ofK2, lst1, lst2, lkill, kont_none, kont_some, Int.reduceToNat, List.length_cons, List.length_nil, Nat.reduceAdd, Nat.reduceLeDiff, Nat.zero_le, true_and, and_true, if_true, if_false, ne_eq, Int.reduceEq, Int.reduceNeg, not_false_eq_true, not_true_eq_false, ↓reduceIte, Int.reduceLT, Int.reduceLE, and_self, or_true, true_or, or_false, false_or, false_and, and_false, ah_t_w, ah_m_w, ah_n_w, lst1_0, List.tail_cons, w32_i, zbd, lst2_0, xt_1a hK', c_81 hK', hlt, c1, c2, g1, g2, R0, tR1, tR2, m0, m8]
          rw [e2]; exact hh
        · simp (disch := omega) only [b_131_5, ↓w_iconst, ↓w_sipush, ↓w_aload_n_0, ↓w_iload_n_1, ↓w_aload_n_2, ↓w_iload_4, ↓w_iload_5, ↓w_iload_6, ↓w_istore, ↓w_iadd, ↓w_imul, ↓w_iastore, ↓w_goto, ↓w_if_icmp_ne, ↓w_if_icmp_ge, ↓w_invokevirtual_0, ↓w_invokevirtual_1, stw_0, stw_i, stw_l, stw_r, ofK0, ofK1, ofK2, lst1, lst2, lkill, kont_none, kont_some, Int.reduceToNat, List.length_cons, List.length_nil, Nat.reduceAdd, Nat.reduceLeDiff, Nat.zero_le, true_and, and_true, if_true, if_false, ne_eq, Int.reduceEq, Int.reduceNeg, not_false_eq_true, not_true_eq_false, ↓reduceIte, Int.reduceLT, Int.reduceLE, and_self, or_true, true_or, or_false, false_or, false_and, and_false, ah_t_w, ah_m_w, ah_n_w, lst1_0, List.tail_cons, w32_i, zbd, lst2_0, xt_1a hK', c_81 hK', hlt, c1, c2, g1, R0, tR1, tR2, m0, m8]
          rw [e2]; exact hh
      refine to64 _ ?_ _ rfl
      generalize hg1 : ah_w h' R m (-1) = g1 at *
      have tg1 : (ah_t g1 R).1 = -1 := by rw [Off_t hO1, tR]
      have tg2 : (ah_t g1 R).2 = 8 := by rw [Off_t hO1, tR]
      by_cases gi : (0 ≤ tp (fr + 2 * m) ∧ tp (fr + 2 * m) < T 1074 4) ∧ (0 ≤ tp (fr + 2 * m + 1) ∧ tp (fr + 2 * m + 1) < T 1074 5)
      · rw [if_pos (by omega)] at hz
        have i1 : ∀ {Q : QQ}, wpC (d + 2) 106 [.inr (.inr 1), .inl (tp (fr + 2 * m)), .inl (tp (fr + 2 * m + 1))] g1 Q ↔ Q (.inl (some (.inl 1))) g1 := by intro Q; rw [c_106 hK1, if_pos gi]
        obtain ⟨P, hP⟩ : ∃ P : Nat, 5 * tp (fr + 2 * m + 1) + tp (fr + 2 * m) = P := ⟨(5 * tp (fr + 2 * m + 1) + tp (fr + 2 * m)).toNat, by omega⟩
        have hP25 : P < 25 := by omega
        have hdup : U.testBit P = true ↔ zdup tp fr (tp (fr + 2 * m)) (tp (fr + 2 * m + 1)) m.toNat 0 = true := by
          rw [ht P hP25, zdup_iff]
          constructor
          · rintro ⟨u, a, b, c⟩
            have bu := hv.2 (fr + 2 * u) (by omega) (by omega)
            have bu' := hv.2 (fr + 2 * u + 1) (by omega) (by omega)
            refine ⟨u, by omega, by omega, ?_⟩
            unfold zplf at c
            rcases (hu u a b).2 with q | q
            · rw [if_pos q] at c; omega
            · rw [if_neg (by omega)] at c
              constructor <;> omega
          · rintro ⟨u, a, b, c1, c2⟩
            refine ⟨u, by omega, by omega, ?_⟩
            unfold zplf
            rw [c1, c2, if_neg g]; exact hP
        have c94 : ∀ {Q : QQ}, wpC (d + 2) 94 [.inl (U : Int), .inl (P : Int)] g1 Q ↔ Q (.inl (some (.inl (if U.testBit P = true then 1 else 0)))) g1 := fun {Q} => c_94 (d := d + 1) U hU P hP25
        by_cases gd : zdup tp fr (tp (fr + 2 * m)) (tp (fr + 2 * m + 1)) m.toNat 0 = true
        · rw [if_pos gd] at hz
          have gb := hdup.2 gd
          simp (disch := omega) only [q_131_64, b_131_64, q_131_89, b_131_89, ↓w_iconst, ↓w_aload_n_0, ↓w_iload_n_3, ↓w_iload_5, ↓w_iload_6, ↓w_iadd, ↓w_imul, ↓w_nop, ↓w_ifCond_eq, ↓w_ireturn1, ↓w_invokestatic_2, ↓w_invokevirtual_2, stw_0, stw_i, stw_l, stw_r, ofK0, ofK1, ofK2, lst1, lst2, lkill, kont_none, kont_some, Int.reduceToNat, List.length_cons, List.length_nil, Nat.reduceAdd, Nat.reduceLeDiff, Nat.zero_le, true_and, and_true, if_true, if_false, ne_eq, Int.reduceEq, Int.reduceNeg, not_false_eq_true, not_true_eq_false, ↓reduceIte, Int.reduceLT, Int.reduceLE, and_self, or_true, true_or, or_false, false_or, false_and, and_false, ah_t_w, ah_m_w, ah_n_w, lst1_0, List.tail_cons, w32_i, zbd, lst2_0, xt_1a hK1, i1, hP, c94, gb]
          exact hQ0 g1 hz.symm hO1
        · rw [if_neg gd] at hz
          have gb : ¬ U.testBit P = true := fun q => gd (hdup.1 q)
          have bo := bit_or U hU P hP25
          have b1 := bo.1
          simp (disch := omega) only [q_131_64, b_131_64, q_131_91, b_131_91, q_131_111, b_131_111, ↓w_iconst, ↓w_aload_n_0, ↓w_aload_n_2, ↓w_iload_n_3, ↓w_iload_4, ↓w_iinc_4, ↓w_iload_5, ↓w_iload_6, ↓w_istore_n_3, ↓w_iadd, ↓w_imul, ↓w_ior, ↓w_ishl, ↓w_iaload, ↓w_iastore, ↓w_nop, ↓w_goto, ↓w_ifCond_eq, ↓w_invokestatic_2, ↓w_invokevirtual_2, stw_0, stw_i, stw_l, stw_r, ofK0, ofK1, ofK2, lst1, lst2, lkill, kont_none, kont_some, Int.reduceToNat, List.length_cons, List.length_nil, Nat.reduceAdd, Nat.reduceLeDiff, Nat.zero_le, true_and, and_true, if_true, if_false, ne_eq, Int.reduceEq, Int.reduceNeg, not_false_eq_true, not_true_eq_false, ↓reduceIte, Int.reduceLT, Int.reduceLE, and_self, or_true, true_or, or_false, false_or, false_and, and_false, ah_t_w, ah_m_w, ah_n_w, lst1_0, List.tail_cons, w32_i, zbd, lst2_0, xt_1a hK1, i1, hP, c94, gb, R0, tg1, tg2, m0, m8, b1]
          refine ih (m + 1) (U ||| 2 ^ P) _ _ (by omega) (by omega) bo.2.1 (Off_w hO1 rfl) (fun u u0 u1 => ?_) (fun p hp => ?_) hz
          · rw [ah_m_w]
            by_cases q : u = m
            · rw [q, if_pos ⟨rfl, rfl⟩, ez, hP]; exact ⟨rfl, Or.inr ⟨by omega, by omega⟩⟩
            · rw [if_neg (fun z => q z.2)]; exact hu1 u u0 (by omega)
          · rw [bo.2.2 p, Bool.or_eq_true, ht p hp, decide_eq_true_eq]
            constructor
            · rintro (⟨u, a, b, c⟩ | q)
              · exact ⟨u, a, by omega, c⟩
              · exact ⟨m, m0, by omega, by rw [ez, hP, q]⟩
            · rintro ⟨u, a, b, c⟩
              by_cases q : u = m
              · right; rw [q, ez, hP] at c; omega
              · left; exact ⟨u, a, by omega, c⟩
      · rw [if_neg (by omega)] at hz
        have i1 : ∀ {Q : QQ}, wpC (d + 2) 106 [.inr (.inr 1), .inl (tp (fr + 2 * m)), .inl (tp (fr + 2 * m + 1))] g1 Q ↔ Q (.inl (some (.inl 0))) g1 := by intro Q; rw [c_106 hK1, if_neg gi]
        simp (disch := omega) only [q_131_64, b_131_64, q_131_89, b_131_89, ↓w_iconst, ↓w_aload_n_0, ↓w_iload_n_3, ↓w_iload_5, ↓w_iload_6, ↓w_iadd, ↓w_imul, ↓w_nop, ↓w_ifCond_eq, ↓w_ireturn1, ↓w_invokestatic_2, ↓w_invokevirtual_2, stw_0, stw_i, stw_l, stw_r, ofK0, ofK1, ofK2, lst1, lst2, lkill, kont_none, kont_some, Int.reduceToNat, List.length_cons, List.length_nil, Nat.reduceAdd, Nat.reduceLeDiff, Nat.zero_le, true_and, and_true, if_true, if_false, ne_eq, Int.reduceEq, Int.reduceNeg, not_false_eq_true, not_true_eq_false, ↓reduceIte, Int.reduceLT, Int.reduceLE, and_self, or_true, true_or, or_false, false_or, false_and, and_false, ah_t_w, ah_m_w, ah_n_w, lst1_0, List.tail_cons, w32_i, zbd, lst2_0, xt_1a hK1, i1]
        exact hQ0 g1 hz.symm hO1
theorem c_131 (hK : XG T h) (hT : XTp tp n h) (hv : TPV tp n) (hR : R = 118 ∨ R = 71) (tR : ah_t h R = (-1, 8)) (f0 : 0 ≤ fr) (hn : fr + 2 * T 1072 4 ≤ n)
    (hQ0 : ∀ h', zam T tp fr (zn T) 0 = false → Off (fun r i => r = R) h h' → Q (.inl (some (.inl 0))) h')
    (hQ1 : ∀ h', zam T tp fr (zn T) 0 = true → Off (fun r i => r = R) h h' → (∀ m, 0 ≤ m → m < T 1072 4 → ah_m h' R m = zplf tp fr m) → Q (.inl (some (.inl 1))) h') : wpC (d + 3) 131 [.inr (.inr 1), .inl fr, .inr (.inr R)] h Q := by
  have n8 := hK.2.2.2.1
  rw [wpC_B]; refine ⟨⟨Nat.zero_lt_succ _, Nat.le_of_ble_eq_true rfl⟩, ?_⟩; simp only [lent]
  simp (disch := omega) only [q_131_0, b_131_0, ↓w_iconst, ↓w_istore, ↓w_istore_n_3, ↓w_nop, stw_0, stw_i, stw_l, stw_r, ofK0, ofK1, ofK2, lst1, lst2, lkill, kont_none, kont_some, Int.reduceToNat, List.length_cons, List.length_nil, Nat.reduceAdd, Nat.reduceLeDiff, Nat.zero_le, true_and, and_true, if_true, if_false, ne_eq, Int.reduceEq, Int.reduceNeg, not_false_eq_true, not_true_eq_false, ↓reduceIte, Int.reduceLT, Int.reduceLE, and_self, or_true, true_or, or_false, false_or, false_and, and_false, ah_t_w, ah_m_w, ah_n_w, lst1_0, List.tail_cons, w32_i, zbd, lst2_0]
  have := l_131 (d := d) hK hT hv hR tR f0 hn hQ0 hQ1 (zn T) 0 0 [] h (by omega) (by unfold zn; omega) (by decide) Off_rfl (fun u u0 u1 => by omega) (fun p hp => by simp; intro u a b; omega) rfl
  exact this
end Z9
