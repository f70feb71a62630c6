/-! ===== values: made ===== -/
section D5
variable {W' : Int → Int → Prop} {d : Nat} {h h' h1 h2 h0 : AH} {Q : QQ} {x y z k s a b c v n p q r o i f N lo hi A B E cap el sp dp capL elL capS elS l' m : Int} {S T T' : Int → Int → Int} {t nw nw' pt of tp : Int → Int} {tl : ALoc} {w u W l cs c1 c2 : List Int} {hm : Bool} {D : Nat} {its : List (Int × List Int)}
set_option maxHeartbeats 4000000
theorem c_153 (p0 : 0 < p) : wpC (d + 1) 153 [.inr (.inr p)] h Q ↔ Q (.inl none) h := by
  apply CT_iff; apply CT_of; rw [wpC_B]; refine ⟨⟨Nat.zero_lt_succ _, Nat.le_of_ble_eq_true rfl⟩, ?_⟩; simp only [lent]
  simp (disch := omega) only [q_153_0, b_153_0, ↓w_aload_n_0, ↓w_return, ↓w_objinit, stw_0, stw_i, stw_l, stw_r, ofK0, ofK1, ofK2, lst1, lst2, lkill, kont_none, kont_some, Int.reduceToNat, List.length_cons, List.length_nil, Nat.reduceAdd, Nat.reduceLeDiff, Nat.zero_le, true_and, and_true, if_true, if_false, ne_eq, Int.reduceEq, Int.reduceNeg, not_false_eq_true, not_true_eq_false, ↓reduceIte, Int.reduceLT, Int.reduceLE, and_self, or_true, true_or, or_false, false_or, false_and, and_false, ah_t_w, ah_m_w, ah_n_w, lst1_0, List.tail_cons, w32_i, zbd, lst2_0, p0]
theorem c_160 (tp : (ah_t h p).1 = 17) (p0 : 0 < p) : wpC (d + 2) 160 [.inr (.inr p), .inr (.inl v)] h Q ↔ Q (.inl none) (ah_w h p 0 v) := by
  apply CT_iff; apply CT_of; rw [wpC_B]; refine ⟨⟨Nat.zero_lt_succ _, Nat.le_of_ble_eq_true rfl⟩, ?_⟩; simp only [lent]
  simp (disch := omega) only [q_160_0, b_160_0, ↓w_aload_n_0, ↓w_lload_n_1, ↓w_putfield_1, ↓w_return, ↓w_invokespecial_0, stw_0, stw_i, stw_l, stw_r, ofK0, ofK1, ofK2, lst1, lst2, lkill, kont_none, kont_some, Int.reduceToNat, List.length_cons, List.length_nil, Nat.reduceAdd, Nat.reduceLeDiff, Nat.zero_le, true_and, and_true, if_true, if_false, ne_eq, Int.reduceEq, Int.reduceNeg, not_false_eq_true, not_true_eq_false, ↓reduceIte, Int.reduceLT, Int.reduceLE, and_self, or_true, true_or, or_false, false_or, false_and, and_false, ah_t_w, ah_m_w, ah_n_w, lst1_0, List.tail_cons, w32_i, zbd, lst2_0, p0, tp, c_153 p0]
theorem c_162 (tp : (ah_t h p).1 = 18) (p0 : 0 < p) : wpC (d + 2) 162 [.inr (.inr p), .inl v] h Q ↔ Q (.inl none) (ah_w h p 0 v) := by
  apply CT_iff; apply CT_of; rw [wpC_B]; refine ⟨⟨Nat.zero_lt_succ _, Nat.le_of_ble_eq_true rfl⟩, ?_⟩; simp only [lent]
  simp (disch := omega) only [q_162_0, b_162_0, ↓w_aload_n_0, ↓w_iload_n_1, ↓w_putfield_0, ↓w_return, ↓w_invokespecial_0, stw_0, stw_i, stw_l, stw_r, ofK0, ofK1, ofK2, lst1, lst2, lkill, kont_none, kont_some, Int.reduceToNat, List.length_cons, List.length_nil, Nat.reduceAdd, Nat.reduceLeDiff, Nat.zero_le, true_and, and_true, if_true, if_false, ne_eq, Int.reduceEq, Int.reduceNeg, not_false_eq_true, not_true_eq_false, ↓reduceIte, Int.reduceLT, Int.reduceLE, and_self, or_true, true_or, or_false, false_or, false_and, and_false, ah_t_w, ah_m_w, ah_n_w, lst1_0, List.tail_cons, w32_i, zbd, lst2_0, p0, tp, c_153 p0]
theorem c_158 (tp : (ah_t h p).1 = 16) (p0 : 0 < p) (hm01 : m = 0 ∨ m = 1) : wpC (d + 2) 158 [.inr (.inr p), .inl m, .inr (.inr x), .inr (.inr y)] h Q ↔ Q (.inl none) (ah_w (ah_w (ah_w h p 0 m) p 1 x) p 2 y) := by
  have e1 : m % 2 = m := by omega
  apply CT_iff; apply CT_of; rw [wpC_B]; refine ⟨⟨Nat.zero_lt_succ _, Nat.le_of_ble_eq_true rfl⟩, ?_⟩; simp only [lent]
  simp (disch := omega) only [q_158_0, b_158_0, ↓w_aload_n_0, ↓w_iload_n_1, ↓w_aload_n_2, ↓w_aload_n_3, ↓w_putfield_2, ↓w_putfield_3, ↓w_return, ↓w_invokespecial_0, stw_0, stw_i, stw_l, stw_r, ofK0, ofK1, ofK2, lst1, lst2, lkill, kont_none, kont_some, Int.reduceToNat, List.length_cons, List.length_nil, Nat.reduceAdd, Nat.reduceLeDiff, Nat.zero_le, true_and, and_true, if_true, if_false, ne_eq, Int.reduceEq, Int.reduceNeg, not_false_eq_true, not_true_eq_false, ↓reduceIte, Int.reduceLT, Int.reduceLE, and_self, or_true, true_or, or_false, false_or, false_and, and_false, ah_t_w, ah_m_w, ah_n_w, lst1_0, List.tail_cons, w32_i, zbd, lst2_0, p0, tp, c_153 p0, e1, hm01]
theorem c_164 (tp : (ah_t h p).1 = 19) (p0 : 0 < p) : wpC (d + 2) 164 [.inr (.inr p), .inr (.inr x), .inl v, .inr (.inr y)] h Q ↔ Q (.inl none) (ah_w (ah_w (ah_w h p 2 x) p 0 v) p 1 y) := by
  apply CT_iff; apply CT_of; rw [wpC_B]; refine ⟨⟨Nat.zero_lt_succ _, Nat.le_of_ble_eq_true rfl⟩, ?_⟩; simp only [lent]
  simp (disch := omega) only [q_164_0, b_164_0, ↓w_aload_n_0, ↓w_aload_n_1, ↓w_iload_n_2, ↓w_aload_n_3, ↓w_putfield_0, ↓w_putfield_2, ↓w_return, ↓w_invokespecial_0, stw_0, stw_i, stw_l, stw_r, ofK0, ofK1, ofK2, lst1, lst2, lkill, kont_none, kont_some, Int.reduceToNat, List.length_cons, List.length_nil, Nat.reduceAdd, Nat.reduceLeDiff, Nat.zero_le, true_and, and_true, if_true, if_false, ne_eq, Int.reduceEq, Int.reduceNeg, not_false_eq_true, not_true_eq_false, ↓reduceIte, Int.reduceLT, Int.reduceLE, and_self, or_true, true_or, or_false, false_or, false_and, and_false, ah_t_w, ah_m_w, ah_n_w, lst1_0, List.tail_cons, w32_i, zbd, lst2_0, p0, tp, c_153 p0]
/-- the rows of a chain -/
theorem chX_lt (hF : FRE h) (hC : CHN hm D a h p its capL elL capS elS) (hx : chX h p elL elS r) : a ≤ r ∧ r < ah_n h := by
  obtain ⟨⟨c1, c2, c3⟩, c4, c5, c6, c7, c8, c9⟩ := hC
  have n1 : p < ah_n h := FRE_lt hF (by rw [c1]; decide)
  have n2 : ah_m h p 0 < ah_n h := FRE_lt hF (by rw [c4.1.1]; decide)
  have n3 : elL < ah_n h := FRE_lt hF (by rw [c4.2.1]; exact (by decide : (-10 : Int) ≠ 0))
  have n4 : ah_m h p 1 < ah_n h := FRE_lt hF (by rw [c5.1.1]; decide)
  have n5 : elS < ah_n h := FRE_lt hF (by rw [c5.2.1]; exact (by decide : (-2 : Int) ≠ 0))
  unfold chX at hx
  rcases hx with e | e | e | e | e <;> subst e
  · exact ⟨c2, n1⟩
  · exact ⟨c6.1, n2⟩
  · exact ⟨c6.2.1, n4⟩
  · exact ⟨c6.2.2.1, n3⟩
  · exact ⟨c6.2.2.2, n5⟩
theorem Wrd_lt : ∀ r i, Wrd r i → r < 1121 := fun r i w => by unfold Wrd at w; omega
theorem RX_hi (hR : RX t n k h) (hE : Ext W' h h') (hW : ∀ r i, W' r i → 1121 ≤ r) : RX t n k h' ∧ ∀ i, ah_m h' 11 i = ah_m h 11 i := by
  have n0 := hR.1.2.1.1
  have e : ∀ i, ah_m h' 11 i = ah_m h 11 i := fun i => hE.2.2 _ _ (by omega) (fun w => by have := hW _ _ w; omega)
  refine ⟨RX_ext hR hE (fun r i w => ?_) (by rw [e]; exact hR.2.2.1) hR.2.2.2.2.2, e⟩
  have := hW r i w
  exact ⟨⟨by unfold fix isS isV; omega, by omega⟩, by omega, by omega⟩
theorem RX_new {tt : Int × Int} (hR : RX t n k h) (hN : 0 ≤ N) : RX t n k (ah_new h tt N) := (RX_hi hR (W' := WN) (Ext_new Ext_rfl hN) (fun r i w => w.elim)).1
/-- a value made after a chain, beside it -/
theorem CHN_it (hF : FRE h) (hC : CHN hm D a h p its capL elL capS elS) (hE : Ext Wrd h h') (hv : VSi hm D (ah_n h) (ah_n h') h' v cs) : CHN hm D a h' p its capL elL capS elS ∧ VSq hm D a (chX h' p elL elS) h' v cs := by
  have c3 := hC.1.2.2
  have n1 : p < ah_n h := FRE_lt hF (by rw [hC.1.1]; decide)
  have e : ∀ i, ah_m h' p i = ah_m h p i := fun i => hE.2.2 _ _ n1 (fun w => by have := Wrd_lt _ _ w; have := hC.1.2.1; omega)
  refine ⟨CHN_ext hC hF hE (fun r i w => by have := Wrd_lt _ _ w; omega), ah_n h, ah_n h', hv, ?_, fun r x => Or.inl ?_⟩
  · have := hC.1.2.1; omega
  · refine (chX_lt hF hC (r := r) ?_).2
    unfold chX at x ⊢
    rw [e, e] at x; exact x
/-- one more in a chain, while X reads -/
theorem c_155r (hR : RX t n k h) (hE0 : Ext Wrd h0 h) (hC : CHN hm D (ah_n h0) h p its capL elL capS elS) (hc : isSg c) (hv : VSq hm D (ah_n h0) (chX h p elL elS) h v cs) (hl : its.length ≤ 2000)
    (hQ : ∀ h' capL' elL' capS' elS', RX t n k h' → Ext Wrd h0 h' → CHN hm D (ah_n h0) h' p (its ++ [(c, cs)]) capL' elL' capS' elS' → (∀ i, ah_m h' 11 i = ah_m h 11 i) → ah_n h' ≤ ah_n h + 2 → ah_s h' + 4 * capL + 2 * capS ≤ ah_s h + 4 * capL' + 2 * capS' → Q (.inl none) h') : wpC (d + 8) 155 [.inr (.inr p), .inl c, .inr (.inr v)] h Q := by
  have hF := hR.1.2.1
  refine c_155 hF hC hc hv hl (fun h' capL' elL' capS' elS' hC' hE' n' s' => ?_)
  have h3 := hC.1.2.2
  have hr := RX_hi hR hE' (fun r i w => by have := (chX_lt hF hC w).1; omega)
  exact hQ h' capL' elL' capS' elS' hr.1 (Ext_tr' hE0 hE' (fun r i w => Or.inr (chX_lt hF hC w).1)) hC' hr.2 n' s'
/-- a chain begins, while X reads -/
theorem c_154r (hR : RX t n k h) (hQ : ∀ h' elL elS, RX t n k h' → Ext Wrd h h' → CHN hm D (ah_n h) h' (ah_n h) [] 2 elL 16 elS → (∀ i, ah_m h' 11 i = ah_m h 11 i) → ah_n h' = ah_n h + 5 → ah_s h' = ah_s h + 27 → Q (.inl none) h') : wpC (d + 4) 154 [.inr (.inr (ah_n h))] (ah_new h (15, 0) ((2 : Nat) : Int)) Q := by
  have n0 := hR.1.2.1.1
  have hE1 : Ext Wrd h (ah_new h (15, 0) ((2 : Nat) : Int)) := Ext_new Ext_rfl (by omega)
  have hR1 : RX t n k (ah_new h (15, 0) ((2 : Nat) : Int)) := RX_new hR (by omega)
  have hF1 := hR1.1.2.1
  refine c_154 (hm := hm) (D := D) (a := ah_n h) hF1 (by rw [ah_t_new, if_pos rfl]) (fun i => by rw [ah_m_new, if_pos rfl]) ⟨Int.le_refl _, n0⟩ (fun h' elL elS hC' hE' n' s' => ?_)
  have hr := RX_hi hR1 hE' (fun r i w => by omega)
  refine hQ h' elL elS hr.1 (Ext_tr' hE1 hE' (fun r i w => Or.inr (by omega))) hC' (fun i => ?_) (by rw [n', ah_n_new]; omega) (by rw [s', ah_s_new]; omega)
  rw [hr.2, ah_m_new, if_neg (by omega)]
theorem zchr_app : ∀ (L M : List (Int × List Int)), zchr (L ++ M) = zchr L ++ zchr M := by
  intro L M
  induction L with
  | nil => rfl
  | cons g L ih => simp [zchr, ih]
theorem zchc_app (hne : its ≠ []) : zchc (its ++ [(s, cs)]) = zchc its ++ (cs ++ [zop s]) := by
  cases its with
  | nil => exact absurd rfl hne
  | cons g L => simp [zchc, zchr_app, zchr]
end D5
