/-! ===== X: moves found ===== -/
def zp5 (T : Int → Int → Int) (k : Int) : Int := 5 * (k / T 1074 4) + k % T 1074 4
def zk5 (T : Int → Int → Int) (p : Int) : Int := T 1074 4 * (p / 5) + p % 5
def XMl (T : Int → Int → Int) (v : Int) (h : AH) : List (Int × Int) → Int → Prop
  | [], _ => True
  | q :: L, i => (ah_m h (v + 1) i = q.1 ∧ ah_m h (v + 2) i = zp5 T q.2) ∧ XMl T v h L (i + 1)
/-- a list of moves in X -/
def XM (T : Int → Int → Int) (v : Int) (L : List (Int × Int)) (h : AH) : Prop := ah_m h v 2 = L.length ∧ XMl T v h L 0
def Wmv (v r i : Int) : Prop := (r = v ∧ i = 2) ∨ r = v + 1 ∨ r = v + 2
/-- places from p on, as X goes through them -/
def zx5 (T : Int → Int → Int) (nw : Int → Int) (m : Int) : Nat → Int → List (Int × Int)
  | 0, _ => []
  | j + 1, p => if p % 5 < T 1074 4 ∧ zgo nw (T 1076) (T 1075) (zn T) (p % 5) (p / 5) m = true then (m, zk5 T p) :: zx5 T nw m j (p + 1) else zx5 T nw m j (p + 1)
section X3
variable {W : Int → Int → Prop} {d : Nat} {h h' h0 : AH} {Q : QQ} {x y z m k s l w a b c v n p r o i f : Int} {S T T' : Int → Int → Int} {t nw : Int → Int}
set_option maxHeartbeats 4000000
theorem zp5_k (h0 : 0 ≤ p) (h1 : p % 5 < T 1074 4) : zp5 T (zk5 T p) = p := by
  unfold zp5 zk5
  have hC : 0 < T 1074 4 := by omega
  have e1 : (T 1074 4 * (p / 5) + p % 5) / T 1074 4 = p / 5 := by
    rw [Int.add_comm, Int.add_mul_ediv_left _ _ (by omega), Int.ediv_eq_zero_of_lt (by omega) h1]; omega
  have e2 : (T 1074 4 * (p / 5) + p % 5) % T 1074 4 = p % 5 := by
    rw [Int.add_comm, Int.add_mul_emod_self_left, Int.emod_eq_of_lt (by omega) h1]
  rw [e1, e2]; omega
theorem zx5_row (hC : 0 < T 1074 4 ∧ T 1074 4 ≤ 5) (y : Int) (J : Nat) : ∀ (u : Nat) (x : Int), 0 ≤ x → x + u = T 1074 4 → zx5 T nw m (u + (5 - T 1074 4).toNat + J) (5 * y + x) = zmk T nw m u (T 1074 4 * y + x) ++ zx5 T nw m J (5 * (y + 1)) := by
  intro u
  induction u with
  | zero =>
    intro x x0 x1
    simp only [zmk, List.nil_append, Nat.zero_add]
    -- the places beyond the board
    have sk : ∀ (w : Nat) (x : Int), T 1074 4 ≤ x → x + w = 5 → zx5 T nw m (w + J) (5 * y + x) = zx5 T nw m J (5 * (y + 1)) := by
      intro w
      induction w with
      | zero => intro x _ e; rw [Nat.zero_add]; congr 1; omega
      | succ w ih =>
        intro x hx e
        rw [show w + 1 + J = (w + J) + 1 by omega]
        simp only [zx5]
        rw [if_neg (by omega), Int.add_assoc]
        exact ih (x + 1) (by omega) (by omega)
    exact sk _ x (by omega) (by omega)
  | succ u ih =>
    intro x x0 x1
    rw [show u + 1 + (5 - T 1074 4).toNat + J = (u + (5 - T 1074 4).toNat + J) + 1 by omega]
    have ih := ih (x + 1) (by omega) (by omega)
    have e1 : (5 * y + x) % 5 = x := by omega
    have e2 : (5 * y + x) / 5 = y := by omega
    have e3 : (T 1074 4 * y + x) % T 1074 4 = x := by rw [Int.add_comm, Int.add_mul_emod_self_left, Int.emod_eq_of_lt (by omega) (by omega)]
    have e4 : (T 1074 4 * y + x) / T 1074 4 = y := by rw [Int.add_comm, Int.add_mul_ediv_left _ _ (by omega), Int.ediv_eq_zero_of_lt (by omega) (by omega)]; omega
    have eG : zG T nw m (T 1074 4 * y + x) = zgo nw (T 1076) (T 1075) (zn T) x y m := by unfold zG; rw [e3, e4]; rfl
    have ek : zk5 T (5 * y + x) = T 1074 4 * y + x := by unfold zk5; rw [e1, e2]
    simp only [zx5, zmk, e1, e2, eG, ek]
    rw [Int.add_assoc, Int.add_assoc]
    by_cases g : zgo nw (T 1076) (T 1075) (zn T) x y m = true
    · rw [if_pos ⟨by omega, g⟩, if_pos g, ih]; rfl
    · rw [if_neg (fun q => g q.2), if_neg g, ih]
theorem zmk_app : ∀ (a : Nat) (b : Nat) (k : Int), zmk T nw m (a + b) k = zmk T nw m a k ++ zmk T nw m b (k + a) := by
  intro a
  induction a with
  | zero => intro b k; simp [zmk]
  | succ a ih =>
    intro b k
    rw [show a + 1 + b = (a + b) + 1 by omega]
    simp only [zmk]
    rw [ih, show k + 1 + (a : Int) = k + ((a + 1 : Nat) : Int) by omega]
    split <;> rfl
theorem zx5_all (hC : 0 < T 1074 4 ∧ T 1074 4 ≤ 5) : ∀ (u : Nat) (y : Int), 0 ≤ y → zx5 T nw m (5 * u) (5 * y) = zmk T nw m (u * (T 1074 4).toNat) (T 1074 4 * y) := by
  intro u
  induction u with
  | zero => intro y _; simp [zx5, zmk]
  | succ u ih =>
    intro y y0
    have := zx5_row (m := m) (nw := nw) hC y (5 * u) (T 1074 4).toNat 0 (by omega) (by omega)
    rw [show (T 1074 4).toNat + (5 - T 1074 4).toNat + 5 * u = 5 * (u + 1) by omega, Int.add_zero, Int.add_zero] at this
    rw [this, ih (y + 1) (by omega), show (u + 1) * (T 1074 4).toNat = (T 1074 4).toNat + u * (T 1074 4).toNat by rw [Nat.add_mul, Nat.one_mul, Nat.add_comm], zmk_app]
    congr 2
    rw [Int.mul_add, Int.mul_one]; omega
theorem zx5_mk (hC : 0 ≤ T 1074 4 ∧ T 1074 4 ≤ 5) (hR : 0 ≤ T 1074 5) : zx5 T nw m (5 * T 1074 5).toNat 0 = zmk T nw m (zP T) 0 := by
  by_cases g : T 1074 4 = 0
  · have : zP T = 0 := by unfold zP; rw [g]; simp
    rw [this]
    simp only [zmk]
    have z : ∀ (j : Nat) (p : Int), zx5 T nw m j p = [] := by
      intro j
      induction j with
      | zero => intro p; rfl
      | succ j ih => intro p; simp only [zx5]; rw [if_neg (by omega)]; exact ih _
    exact z _ _
  · have := zx5_all (m := m) (nw := nw) (T := T) (by omega) (T 1074 5).toNat 0 (by omega)
    rw [show (5 * T 1074 5).toNat = 5 * (T 1074 5).toNat by omega]
    rw [Int.mul_zero, Int.mul_zero] at this
    rw [this]
    congr 1
    unfold zP
    rw [Int.mul_comm, Int.toNat_mul hR hC.1]
theorem c_210 {pp : Int} (hK : XG T h) (hV : isV v) (e2 : ah_m h v 2 = n) (n0 : 0 ≤ n) (n1 : n < 200) : wpC (d + 1) 210 [.inr (.inr v), .inl m, .inl pp] h Q ↔ Q (.inl none) (ah_w (ah_w (ah_w h (v + 1) n m) (v + 2) n pp) v 2 (n + 1)) := by
  have f1 : ¬ v = v + 1 := by omega
  have f2 : ¬ v = v + 2 := by omega
  have f3 : ¬ v + 2 = v + 1 := by omega
  have hv : 0 < v + 1 := by unfold isV at hV; omega
  have hv2 : 0 < v + 2 := by omega
  have hv3 : 0 < v := by unfold isV at hV; omega
  apply CT_iff; apply CT_of; rw [wpC_B]; refine ⟨⟨Nat.zero_lt_succ _, Nat.le_of_ble_eq_true rfl⟩, ?_⟩; simp only [lent]
  simp (disch := omega) only [q_210_0, b_210_0, ↓w_iconst, ↓w_aload_n_0, ↓w_iload_n_1, ↓w_iload_n_2, ↓w_dup_i, ↓w_dup_a, ↓w_iadd, ↓w_getfield, ↓w_putfield_0, ↓w_iastore, ↓w_return, stw_0, stw_i, stw_l, stw_r, ofK0, ofK1, ofK2, lst1, lst2, lkill, kont_none, kont_some, Int.reduceToNat, List.length_cons, List.length_nil, Nat.reduceAdd, Nat.reduceLeDiff, Nat.zero_le, true_and, and_true, if_true, if_false, ne_eq, Int.reduceEq, Int.reduceNeg, not_false_eq_true, not_true_eq_false, ↓reduceIte, Int.reduceLT, Int.reduceLE, and_self, or_true, true_or, or_false, false_or, false_and, and_false, ah_t_w, ah_m_w, ah_n_w, lst1_0, List.tail_cons, w32_i, zbd, lst2_0, vv_t hK hV, vv_0 hK hV, vv_0a hK hV, vv_0b hK hV, vv_1 hK hV, vv_1a hK hV, vv_1b hK hV, e2, f1, f2, f3, hv, hv2, hv3, n0, n1]
theorem XMl_off (hO : Off W h h') (hW : ∀ r i, W r i → r ≠ v + 1 ∧ r ≠ v + 2) : ∀ (L : List (Int × Int)) (i : Int), XMl T v h L i → XMl T v h' L i := by
  intro L
  induction L with
  | nil => intro i _; trivial
  | cons q L ih =>
    intro i hx
    refine ⟨⟨?_, ?_⟩, ih _ hx.2⟩
    · rw [hO.2 _ _ (fun w => (hW _ _ w).1 rfl)]; exact hx.1.1
    · rw [hO.2 _ _ (fun w => (hW _ _ w).2 rfl)]; exact hx.1.2
theorem XM_off {L : List (Int × Int)} (hx : XM T v L h) (hO : Off W h h') (hW : ∀ r i, W r i → ¬ Wmv v r i) : XM T v L h' :=
  ⟨by rw [hO.2 _ _ (fun w => hW _ _ w (Or.inl ⟨rfl, rfl⟩))]; exact hx.1, XMl_off hO (fun r i w => ⟨fun e => hW _ _ w (Or.inr (Or.inl e)), fun e => hW _ _ w (Or.inr (Or.inr e))⟩) L 0 hx.2⟩
theorem XMl_add {z1 z2 z3 : Int} {q : Int × Int} (e2 : zp5 T q.2 = z2) (e1 : q.1 = z1) : ∀ (L : List (Int × Int)) (i : Int), 0 ≤ i → XMl T v h L i → XMl T v (ah_w (ah_w (ah_w h (v + 1) (i + L.length) z1) (v + 2) (i + L.length) z2) v 2 z3) (L ++ [q]) i := by
  intro L
  induction L with
  | nil =>
    intro i _ _
    refine ⟨⟨?_, ?_⟩, trivial⟩
    · simp only [List.length_nil, Int.ofNat_zero, Int.add_zero]
      rw [ah_m_w, if_neg (by omega), ah_m_w, if_neg (by omega), ah_m_w, if_pos ⟨rfl, by simp⟩, e1]
    · rw [ah_m_w, if_neg (by omega), ah_m_w, if_pos ⟨rfl, by simp⟩, e2]
  | cons q' L ih =>
    intro i i0 hx
    have := ih (i + 1) (by omega) hx.2
    rw [show i + ((q' :: L).length : Int) = i + 1 + L.length by simp; omega]
    refine ⟨⟨?_, ?_⟩, this⟩
    · rw [ah_m_w, if_neg (by omega), ah_m_w, if_neg (by omega), ah_m_w, if_neg (by omega)]; exact hx.1.1
    · rw [ah_m_w, if_neg (by omega), ah_m_w, if_neg (by omega), ah_m_w, if_neg (by omega)]; exact hx.1.2
theorem XM_add {L : List (Int × Int)} {q : Int × Int} {pp : Int} (e2 : zp5 T q.2 = pp) (e1 : q.1 = m) (hx : XM T v L h) : XM T v (L ++ [q]) (ah_w (ah_w (ah_w h (v + 1) L.length m) (v + 2) L.length pp) v 2 (L.length + 1)) := by
  refine ⟨?_, ?_⟩
  · rw [ah_m_w, if_pos ⟨rfl, rfl⟩]; simp
  · have := XMl_add (z3 := L.length + 1) e2 e1 L 0 (by omega) hx.2
    rw [Int.zero_add] at this; exact this
theorem Wmv_ok (hV : isV v) : ∀ r i, Wmv v r i → ¬ fix r i ∧ ¬ BRr r ∧ ¬ (r = 1 ∧ i = 0) := by
  intro r i w
  unfold Wmv at w; unfold isV at hV; unfold fix BRr isS isV
  omega
theorem Wmv_S (hV : isV v) (hs : isS s) : ∀ r i, Wmv v r i → ¬ (s ≤ r ∧ r ≤ s + 44) := by
  intro r i w
  unfold Wmv at w; unfold isV at hV; unfold isS at hs
  omega
end X3
