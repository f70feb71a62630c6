/-! ===== X's reader: tests; what stays where blanks are skipped ===== -/
section E5
variable {W' : Int → Int → Prop} {d : Nat} {h h' h1 h2 h0 : AH} {Q : QQ} {x y z k k' s a b c v n p q r o i N lo hi A B E F cap el sp dp capL elL capS elS l' m op : Int} {S T T' : Int → Int → Int} {t nw nw' pt of tp : Int → Int} {tl : ALoc} {w W V l cs c1 c2 : List Int} {hm : Bool} {D f u : Nat} {its : List (List Int)}
set_option maxHeartbeats 4000000
theorem znum_se (e : zsk t n k = zsk t n k') : znum t n k lo hi = znum t n k' lo hi := by unfold znum; rw [e]
theorem zex_se (e : zsk t n k = zsk t n k') : ∀ (f : Nat) (md : Int), zex hm t n f md k o = zex hm t n f md k' o := by
  intro f
  induction f with
  | zero => intro md; rfl
  | succ f ih =>
    intro md
    simp only [zex, e, ih, znum_se e]
theorem zxt_se (e : zsk t n k = zsk t n k') : ∀ (f : Nat) (md : Int), zxt t n f md k o = zxt t n f md k' o := by
  intro f
  induction f with
  | zero => intro md; rfl
  | succ f ih =>
    intro md
    simp only [zxt, e, ih, zex_se e]
theorem zlp_ex (g : zlp t n (zsk t n k) = true) : zex hm t n (f + 3) 0 k o = .inl (1, zsk t n k) := by
  have g0 := g
  unfold zlp at g
  rw [Bool.and_eq_true] at g
  have gl := of_decide_eq_true g.1
  have nb : zwb t n (zsk t n k) = false := by unfold zwb; rw [g.2]; simp
  have gd : zD (zB t n (zsk t n k)) = false := decide_eq_false (by omega)
  have ez := zex_no (hm := hm) (f := f) (o := o) (show ¬ zB t n (zsk t n k) = 40 by omega) ⟨zhw_nb nb, zhw_nb nb⟩ (by rw [zqw_nb nb]; decide) (by rw [zqw_nb nb]; simp)
  have en : znum t n k 0 9999 = .inl (1, zsk t n k) := by unfold znum; rw [if_neg (by rw [gd]; simp)]
  rw [en] at ez
  have e1 : zex hm t n (f + 2) 1 k o = .inl (1, zsk t n k) := by
    rw [zex.eq_def]
    simp only [if_true, if_false, Int.reduceEq]
    rw [ez]
  rw [zex.eq_def]
  simp only [if_true, if_false, Int.reduceEq]
  rw [e1]
theorem zlp_xt (g : zlp t n (zsk t n k) = true) : zxt t n (f + 1) 2 k o = .inl (1, zsk t n k) := by
  have gl : 97 ≤ zB t n (zsk t n k) := by
    unfold zlp at g
    rw [Bool.and_eq_true] at g
    exact (of_decide_eq_true g.1).1
  simp only [zxt, if_true, if_false, Int.reduceEq]
  rw [if_neg (by omega), if_neg (by rw [zlp_hw g]; decide), if_neg (by rw [zlp_hw g]; decide)]
  have : zex false t n (zF n) 0 k o = .inl (1, zsk t n k) := by
    unfold zF
    exact zlp_ex (f := 6 * n.toNat + 7) g
  rw [this]
/-! made -/
theorem c_169 (p0 : 0 < p) : wpC (d + 1) 169 [.inr (.inr p)] h Q ↔ Q (.inl none) h := by
  apply CT_iff; apply CT_of; rw [wpC_B]; refine ⟨⟨Nat.zero_lt_succ _, Nat.le_of_ble_eq_true rfl⟩, ?_⟩; simp only [lent]
  simp (disch := omega) only [q_169_0, b_169_0, ↓w_aload_n_0, ↓w_return, ↓w_objinit, stw_0, stw_i, stw_l, stw_r, ofK0, ofK1, ofK2, lst1, lst2, lkill, kont_none, kont_some, Int.reduceToNat, List.length_cons, List.length_nil, Nat.reduceAdd, Nat.reduceLeDiff, Nat.zero_le, true_and, and_true, if_true, if_false, ne_eq, Int.reduceEq, Int.reduceNeg, not_false_eq_true, not_true_eq_false, ↓reduceIte, Int.reduceLT, Int.reduceLE, and_self, or_true, true_or, or_false, false_or, false_and, and_false, ah_t_w, ah_m_w, ah_n_w, lst1_0, List.tail_cons, w32_i, zbd, lst2_0, p0]
theorem c_201 (tp : (ah_t h p).1 = 22) (p0 : 0 < p) : wpC (d + 2) 201 [.inr (.inr p), .inr (.inr x)] h Q ↔ Q (.inl none) (ah_w h p 0 x) := by
  apply CT_iff; apply CT_of; rw [wpC_B]; refine ⟨⟨Nat.zero_lt_succ _, Nat.le_of_ble_eq_true rfl⟩, ?_⟩; simp only [lent]
  simp (disch := omega) only [q_201_0, b_201_0, ↓w_aload_n_0, ↓w_aload_n_1, ↓w_putfield_2, ↓w_return, ↓w_invokespecial_0, stw_0, stw_i, stw_l, stw_r, ofK0, ofK1, ofK2, lst1, lst2, lkill, kont_none, kont_some, Int.reduceToNat, List.length_cons, List.length_nil, Nat.reduceAdd, Nat.reduceLeDiff, Nat.zero_le, true_and, and_true, if_true, if_false, ne_eq, Int.reduceEq, Int.reduceNeg, not_false_eq_true, not_true_eq_false, ↓reduceIte, Int.reduceLT, Int.reduceLE, and_self, or_true, true_or, or_false, false_or, false_and, and_false, ah_t_w, ah_m_w, ah_n_w, lst1_0, List.tail_cons, w32_i, zbd, lst2_0, p0, tp, c_169 p0]
theorem c_203 (tp : (ah_t h p).1 = 23) (p0 : 0 < p) : wpC (d + 2) 203 [.inr (.inr p)] h Q ↔ Q (.inl none) h := by
  apply CT_iff; apply CT_of; rw [wpC_B]; refine ⟨⟨Nat.zero_lt_succ _, Nat.le_of_ble_eq_true rfl⟩, ?_⟩; simp only [lent]
  simp (disch := omega) only [q_203_0, b_203_0, ↓w_aload_n_0, ↓w_return, ↓w_invokespecial_0, stw_0, stw_i, stw_l, stw_r, ofK0, ofK1, ofK2, lst1, lst2, lkill, kont_none, kont_some, Int.reduceToNat, List.length_cons, List.length_nil, Nat.reduceAdd, Nat.reduceLeDiff, Nat.zero_le, true_and, and_true, if_true, if_false, ne_eq, Int.reduceEq, Int.reduceNeg, not_false_eq_true, not_true_eq_false, ↓reduceIte, Int.reduceLT, Int.reduceLE, and_self, or_true, true_or, or_false, false_or, false_and, and_false, ah_t_w, ah_m_w, ah_n_w, lst1_0, List.tail_cons, w32_i, zbd, lst2_0, p0, tp, c_169 p0]
theorem c_205 (tp : (ah_t h p).1 = 24) (p0 : 0 < p) : wpC (d + 2) 205 [.inr (.inr p), .inr (.inr x), .inl m, .inr (.inr y)] h Q ↔ Q (.inl none) (ah_w (ah_w (ah_w h p 0 x) p 2 m) p 1 y) := by
  apply CT_iff; apply CT_of; rw [wpC_B]; refine ⟨⟨Nat.zero_lt_succ _, Nat.le_of_ble_eq_true rfl⟩, ?_⟩; simp only [lent]
  simp (disch := omega) only [q_205_0, b_205_0, ↓w_aload_n_0, ↓w_aload_n_1, ↓w_iload_n_2, ↓w_aload_n_3, ↓w_putfield_0, ↓w_putfield_2, ↓w_return, ↓w_invokespecial_0, stw_0, stw_i, stw_l, stw_r, ofK0, ofK1, ofK2, lst1, lst2, lkill, kont_none, kont_some, Int.reduceToNat, List.length_cons, List.length_nil, Nat.reduceAdd, Nat.reduceLeDiff, Nat.zero_le, true_and, and_true, if_true, if_false, ne_eq, Int.reduceEq, Int.reduceNeg, not_false_eq_true, not_true_eq_false, ↓reduceIte, Int.reduceLT, Int.reduceLE, and_self, or_true, true_or, or_false, false_or, false_and, and_false, ah_t_w, ah_m_w, ah_n_w, lst1_0, List.tail_cons, w32_i, zbd, lst2_0, p0, tp, c_169 p0]
end E5
