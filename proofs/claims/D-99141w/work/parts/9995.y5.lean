/-! ===== X: values as told (trees), harm ===== -/
/-- the rows of boards made so far are the same -/
def Agr (h h' : AH) : Prop := ∀ r, 1121 ≤ r → r < ah_n h → ah_t h' r = ah_t h r ∧ ∀ i, ah_m h' r i = ah_m h r i
def vme (t : Int) : Nat := if t = 15 then 156 else if t = 16 then 159 else if t = 17 then 161 else if t = 18 then 163 else 165
def vmo (hm : Bool) : Int := if hm = true then 13 else 15
/-- what is asked of is told in the heap -/
def EV (hm : Bool) (pt of : Int → Int) (h : AH) : Prop := ((ah_t h (vmo hm)).1 = 6 ∧ ah_m h (vmo hm) 0 = vmo hm + 1 ∧ ah_t h (vmo hm + 1) = (-4, 11)) ∧ (∀ w, 0 ≤ w → w ≤ 10 → (if hm = true then w ≤ 3 else 3 ≤ w) → ah_m h (vmo hm + 1) w = pt w)
  ∧ (hm = false → (ah_t h 1).1 = 1 ∧ ∀ (d : Nat) (x : Int) (Q : QQ), -1000000 ≤ x → x ≤ 1000000 → Q (.inl (some (.inr (.inl (of x))))) h → wpC (d + 6) 120 [.inr (.inr 1), .inl 0, .inr (.inl x)] h Q)
/-- rows a to b are the same -/
def AgI (a b : Int) (h h' : AH) : Prop := ∀ r, a ≤ r → r < b → ah_t h' r = ah_t h r ∧ ∀ i, ah_m h' r i = ah_m h r i
/-- a value in the heap (in rows a to b) tells what codes tell -/
def VSi (hm : Bool) (D : Nat) (a b : Int) (h : AH) (p : Int) (cs : List Int) : Prop := (1121 ≤ a ∧ a ≤ p ∧ p < b ∧ b ≤ ah_n h) ∧ (15 ≤ (ah_t h p).1 ∧ (ah_t h p).1 ≤ 19) ∧ TyS hm cs
  ∧ ∀ (h' : AH) (pt of : Int → Int) (Q : QQ), AgI a b h h' → EV hm pt of h' → Q (.inl (some (.inr (.inl (ztop (zrun pt of cs [])))))) h' → wpC D (vme (ah_t h p).1) [.inr (.inr p), .inr (.inr (vmo hm))] h' Q
def VS (hm : Bool) (D : Nat) (h : AH) (p : Int) (cs : List Int) : Prop := ∃ a b, VSi hm D a b h p cs
/-- X's harm is M's -/
def XH (T : Int → Int → Int) (h : AH) : Prop := (T 1080 1 = -1 ∧ ah_m h (xb h) 9 = 0) ∨ (T 1080 1 ≠ -1 ∧ VS true 40 h (ah_m h (xb h) 9) (zhl T))
section Y5
variable {W : Int → Int → Prop} {d : Nat} {h h' h1 h0 : AH} {Q : QQ} {x y z m k s l w a b c v n p r o i f : Int} {S T T' : Int → Int → Int} {t nw nw' pt of : Int → Int} {tl : ALoc} {hm : Bool} {cs : List Int} {D : Nat}
set_option maxHeartbeats 4000000
theorem Agr_rfl : Agr h h := fun _ _ _ => ⟨rfl, fun _ => rfl⟩
theorem Agr_tr (a : Agr h h1) (hn : ah_n h ≤ ah_n h1) (b : Agr h1 h') : Agr h h' := fun r r0 r1 => by
  have p := a r r0 r1
  have q := b r r0 (by omega)
  exact ⟨q.1.trans p.1, fun i => (q.2 i).trans (p.2 i)⟩
theorem Agr_off (hO : Off W h h') (hW : ∀ r i, W r i → r < 1121) : Agr h h' := fun r r0 r1 => ⟨by rw [Off_t hO], fun i => hO.2 r i (fun w => by have := hW r i w; omega)⟩
theorem AgI_of (ag : Agr h h') (ha : 1121 ≤ a) (hb : b ≤ ah_n h) : AgI a b h h' := fun r r0 r1 => ag r (by omega) (by omega)
theorem AgI_tr (x : AgI a b h h1) (y : AgI a b h1 h') : AgI a b h h' := fun r r0 r1 => ⟨(y r r0 r1).1.trans (x r r0 r1).1, fun i => ((y r r0 r1).2 i).trans ((x r r0 r1).2 i)⟩
theorem VSi_ext (hv : VSi hm D a b h p cs) (ag : AgI a b h h1) (hn : ah_n h ≤ ah_n h1) : VSi hm D a b h1 p cs := by
  obtain ⟨v1, v2, v3, v4⟩ := hv
  have e := (ag p (by omega) (by omega)).1
  refine ⟨⟨v1.1, v1.2.1, v1.2.2.1, by omega⟩, by rw [e]; exact v2, v3, fun h' pt of Q b ev q => ?_⟩
  rw [e]
  exact v4 h' pt of Q (AgI_tr ag b) ev q
theorem VS_ext (hv : VS hm D h p cs) (ag : Agr h h1) (hn : ah_n h ≤ ah_n h1) : VS hm D h1 p cs := by
  obtain ⟨a, b, v⟩ := hv
  exact ⟨a, b, VSi_ext v (AgI_of ag v.1.1 v.1.2.2.2) hn⟩
theorem VS_off (hv : VS hm D h p cs) (hO : Off W h h') (hW : ∀ r i, W r i → r < 1121) : VS hm D h' p cs := VS_ext hv (Agr_off hO hW) (by rw [Off_n hO]; exact Int.le_refl _)
theorem VSi_deep {D' : Nat} (hv : VSi hm D a b h p cs) (hD : D ≤ D') : VSi hm D' a b h p cs := ⟨hv.1, hv.2.1, hv.2.2.1, fun h' pt of Q a e q => wpC_deep (hv.2.2.2 h' pt of Q a e q) hD⟩
theorem vme_a {t : Int} (h0 : 15 ≤ t) (h1 : t ≤ 19) : asc [(18, 163), (15, 156), (17, 161), (19, 165), (16, 159)] t = some ((vme t : Nat) : Int) := by
  have : t = 15 ∨ t = 16 ∨ t = 17 ∨ t = 18 ∨ t = 19 := by omega
  rcases this with e | e | e | e | e <;> subst e <;> rfl
theorem XH_off (hH : XH T h) (hB : XB T h) (hO : Off W h h') (hW : ∀ r i, W r i → r < 1121 ∧ ¬ BRr r ∧ ¬ (r = 1 ∧ i = 0)) : XH T h' := by
  have e0 : xb h' = xb h := hO.2 1 0 (fun w => (hW _ _ w).2.2 ⟨rfl, rfl⟩)
  have e9 : ah_m h' (xb h') 9 = ah_m h (xb h) 9 := by rw [e0]; exact hO.2 _ _ (fun w => (hW _ _ w).2.1 hB.1.1)
  unfold XH
  rw [e9]
  rcases hH with q | q
  · exact Or.inl q
  · exact Or.inr ⟨q.1, VS_off q.2 hO (fun r i w => (hW r i w).1)⟩
theorem ztop_b (hT : TyS hm cs) : -1000000 ≤ ztop (zrun pt of cs []) ∧ ztop (zrun pt of cs []) ≤ 1000000 := by
  have hf := zrun_fit (pt := pt) (of := of) cs [] [] _ trivial (hT [])
  obtain ⟨x, st', e, b, c⟩ := zfit_c hf
  rw [e]
  exact b
theorem xb_w (hr : r ≠ 1) : xb (ah_w h r k z) = xb h := by unfold xb; rw [ah_m_w, if_neg (fun q => hr q.1.symm)]
theorem c_20 : wpC (d + 1) 20 [.inr (.inl x), .inr (.inl y)] h Q ↔ Q (.inl (some (.inr (.inl (if y < x then y else x))))) h := by
  apply CT_iff; apply CT_of; rw [wpC_B]; refine ⟨⟨Nat.zero_lt_succ _, Nat.le_of_ble_eq_true rfl⟩, ?_⟩; simp only [lent]
  by_cases g : y < x
  · simp (disch := omega) only [q_20_0, b_20_0, q_20_10, b_20_10, q_20_11, b_20_11, ↓w_lload_n_0, ↓w_lload_n_2, ↓w_lcmp, ↓w_nop, ↓w_goto, ↓w_ifCond_gt, ↓w_lreturn, stw_0, stw_i, stw_l, stw_r, ofK0, ofK1, ofK2, lst1, lst2, lkill, kont_none, kont_some, Int.reduceToNat, List.length_cons, List.length_nil, Nat.reduceAdd, Nat.reduceLeDiff, Nat.zero_le, true_and, and_true, if_true, if_false, ne_eq, Int.reduceEq, Int.reduceNeg, not_false_eq_true, not_true_eq_false, ↓reduceIte, Int.reduceLT, Int.reduceLE, and_self, or_true, true_or, or_false, false_or, false_and, and_false, ah_t_w, ah_m_w, ah_n_w, lst1_0, List.tail_cons, w32_i, zbd, lst2_0, lc_gt, lc_lt, lc_eq, g]
  · simp (disch := omega) only [q_20_0, b_20_0, q_20_10, b_20_10, q_20_11, b_20_11, ↓w_lload_n_0, ↓w_lload_n_2, ↓w_lcmp, ↓w_nop, ↓w_goto, ↓w_ifCond_gt, ↓w_lreturn, stw_0, stw_i, stw_l, stw_r, ofK0, ofK1, ofK2, lst1, lst2, lkill, kont_none, kont_some, Int.reduceToNat, List.length_cons, List.length_nil, Nat.reduceAdd, Nat.reduceLeDiff, Nat.zero_le, true_and, and_true, if_true, if_false, ne_eq, Int.reduceEq, Int.reduceNeg, not_false_eq_true, not_true_eq_false, ↓reduceIte, Int.reduceLT, Int.reduceLE, and_self, or_true, true_or, or_false, false_or, false_and, and_false, ah_t_w, ah_m_w, ah_n_w, lst1_0, List.tail_cons, w32_i, zbd, lst2_0, lc_gt, lc_lt, lc_eq, g]
theorem c_21 : wpC (d + 1) 21 [.inr (.inl x), .inr (.inl y)] h Q ↔ Q (.inl (some (.inr (.inl (if x < y then y else x))))) h := by
  apply CT_iff; apply CT_of; rw [wpC_B]; refine ⟨⟨Nat.zero_lt_succ _, Nat.le_of_ble_eq_true rfl⟩, ?_⟩; simp only [lent]
  by_cases g : x < y
  · simp (disch := omega) only [q_21_0, b_21_0, q_21_10, b_21_10, q_21_11, b_21_11, ↓w_lload_n_0, ↓w_lload_n_2, ↓w_lcmp, ↓w_nop, ↓w_goto, ↓w_ifCond_lt, ↓w_lreturn, stw_0, stw_i, stw_l, stw_r, ofK0, ofK1, ofK2, lst1, lst2, lkill, kont_none, kont_some, Int.reduceToNat, List.length_cons, List.length_nil, Nat.reduceAdd, Nat.reduceLeDiff, Nat.zero_le, true_and, and_true, if_true, if_false, ne_eq, Int.reduceEq, Int.reduceNeg, not_false_eq_true, not_true_eq_false, ↓reduceIte, Int.reduceLT, Int.reduceLE, and_self, or_true, true_or, or_false, false_or, false_and, and_false, ah_t_w, ah_m_w, ah_n_w, lst1_0, List.tail_cons, w32_i, zbd, lst2_0, lc_gt, lc_lt, lc_eq, g]
  · simp (disch := omega) only [q_21_0, b_21_0, q_21_10, b_21_10, q_21_11, b_21_11, ↓w_lload_n_0, ↓w_lload_n_2, ↓w_lcmp, ↓w_nop, ↓w_goto, ↓w_ifCond_lt, ↓w_lreturn, stw_0, stw_i, stw_l, stw_r, ofK0, ofK1, ofK2, lst1, lst2, lkill, kont_none, kont_some, Int.reduceToNat, List.length_cons, List.length_nil, Nat.reduceAdd, Nat.reduceLeDiff, Nat.zero_le, true_and, and_true, if_true, if_false, ne_eq, Int.reduceEq, Int.reduceNeg, not_false_eq_true, not_true_eq_false, ↓reduceIte, Int.reduceLT, Int.reduceLE, and_self, or_true, true_or, or_false, false_or, false_and, and_false, ah_t_w, ah_m_w, ah_n_w, lst1_0, List.tail_cons, w32_i, zbd, lst2_0, lc_gt, lc_lt, lc_eq, g]
theorem c_119 : wpC (d + 2) 119 [.inr (.inl x)] h Q ↔ Q (.inl (some (.inr (.inl (zclip x))))) h := by
  apply CT_iff; apply CT_of; rw [wpC_B]; refine ⟨⟨Nat.zero_lt_succ _, Nat.le_of_ble_eq_true rfl⟩, ?_⟩; simp only [lent]
  have e : (if -1000000 < (if x < 1000000 then x else 1000000) then (if x < 1000000 then x else 1000000) else -1000000) = zclip x := by
    unfold zclip; split <;> split <;> split <;> omega
  simp (disch := omega) only [q_119_0, b_119_0, ↓w_ldc2_w, ↓w_lload_n_0, ↓w_lreturn, ↓w_invokestatic_2, stw_0, stw_i, stw_l, stw_r, ofK0, ofK1, ofK2, lst1, lst2, lkill, kont_none, kont_some, Int.reduceToNat, List.length_cons, List.length_nil, Nat.reduceAdd, Nat.reduceLeDiff, Nat.zero_le, true_and, and_true, if_true, if_false, ne_eq, Int.reduceEq, Int.reduceNeg, not_false_eq_true, not_true_eq_false, ↓reduceIte, Int.reduceLT, Int.reduceLE, and_self, or_true, true_or, or_false, false_or, false_and, and_false, ah_t_w, ah_m_w, ah_n_w, lst1_0, List.tail_cons, w32_i, zbd, lst2_0, c_20, c_21, e]
theorem zabs_s : zabs (x - y) = zabs (y - x) := by unfold zabs; split <;> split <;> omega
theorem zoff_s : zoff x y a b = zoff a b x y := by unfold zoff; rw [zabs_s (x := x), zabs_s (x := y)]
theorem c_118 (h1 : -10 ≤ x ∧ x ≤ 10) (h2 : -10 ≤ y ∧ y ≤ 10) (h3 : -10 ≤ a ∧ a ≤ 10) (h4 : -10 ≤ b ∧ b ≤ 10) : wpC (d + 2) 118 [.inl x, .inl y, .inl a, .inl b] h Q ↔ Q (.inl (some (.inl (zoff a b x y)))) h := by
  apply CT_iff; apply CT_of; rw [wpC_B]; refine ⟨⟨Nat.zero_lt_succ _, Nat.le_of_ble_eq_true rfl⟩, ?_⟩; simp only [lent]
  have e : (if zabs (x - a) < zabs (y - b) then zabs (y - b) else zabs (x - a)) = zoff a b x y := by
    rw [zoff_s]; unfold zoff; split <;> split <;> omega
  simp (disch := omega) only [q_118_0, b_118_0, ↓w_iload_n_0, ↓w_iload_n_1, ↓w_iload_n_2, ↓w_iload_n_3, ↓w_isub, ↓w_ireturn0, ↓w_invokestatic_1, ↓w_invokestatic_2, stw_0, stw_i, stw_l, stw_r, ofK0, ofK1, ofK2, lst1, lst2, lkill, kont_none, kont_some, Int.reduceToNat, List.length_cons, List.length_nil, Nat.reduceAdd, Nat.reduceLeDiff, Nat.zero_le, true_and, and_true, if_true, if_false, ne_eq, Int.reduceEq, Int.reduceNeg, not_false_eq_true, not_true_eq_false, ↓reduceIte, Int.reduceLT, Int.reduceLE, and_self, or_true, true_or, or_false, false_or, false_and, and_false, ah_t_w, ah_m_w, ah_n_w, lst1_0, List.tail_cons, w32_i, zbd, lst2_0, c_19, c_17, e]
theorem zhr_b (hK : XG T h) (hv : XH T h) (ht : 0 ≤ a ∧ a ≤ 1000) : 0 ≤ zharm T a b c z ∧ zharm T a b c z ≤ 1000000 := by
  unfold zharm
  rcases hv with q | q
  · rw [if_pos q.1]; omega
  · rw [if_neg q.1]
    obtain ⟨_, _, v⟩ := q.2
    have := ztop_b (pt := zhp a b c z) (of := fun _ => 0) v.2.2.1
    split <;> omega
theorem c_232 {tw ck : Int} (hK : XG T h) (hZ : isS s) (hH : XH T h) (e8 : ah_m h s 8 = p) (e9 : p ≠ -1 → ah_m h s 9 = tw) (e10 : p ≠ -1 → ah_m h s 10 = ck) (e0 : ah_m h s 0 = n) (hn : 0 ≤ n ∧ n ≤ 6000) (hp : -1 ≤ p ∧ p < 25) (hck : ck = 0 ∨ ck = 1) (hx : 0 ≤ x ∧ x ≤ 5) (hy : 0 ≤ y ∧ y ≤ 5)
    (hQ : ∀ h', XG T h' → Off (fun r i => r = 14) h h' → Q (.inl (some (.inl (if p = -1 then 0 else zharm T tw ck (zoff x y (p % 5) (p / 5)) (n - 1))))) h') : wpC (d + 42) 232 [.inr (.inr s), .inl x, .inl y] h Q := by
  rw [wpC_B]; refine ⟨⟨Nat.zero_lt_succ _, Nat.le_of_ble_eq_true rfl⟩, ?_⟩; simp only [lent]
  by_cases g : p = -1
  · rw [if_pos g] at hQ
    simp (disch := omega) only [q_232_0, b_232_0, ↓w_iconst, ↓w_aload_n_0, ↓w_getfield, ↓w_if_icmp_ne, ↓w_ireturn0, stw_0, stw_i, stw_l, stw_r, ofK0, ofK1, ofK2, lst1, lst2, lkill, kont_none, kont_some, Int.reduceToNat, List.length_cons, List.length_nil, Nat.reduceAdd, Nat.reduceLeDiff, Nat.zero_le, true_and, and_true, if_true, if_false, ne_eq, Int.reduceEq, Int.reduceNeg, not_false_eq_true, not_true_eq_false, ↓reduceIte, Int.reduceLT, Int.reduceLE, and_self, or_true, true_or, or_false, false_or, false_and, and_false, ah_t_w, ah_m_w, ah_n_w, lst1_0, List.tail_cons, w32_i, zbd, lst2_0, sz_t hK hZ, e8, g]
    exact hQ h hK Off_rfl
  rw [if_neg g] at hQ
  have e9 := e9 g
  have e10 := e10 g
  rcases hH with q | q
  · have hq9 := q.2
    have : zharm T tw ck (zoff x y (p % 5) (p / 5)) (n - 1) = tw := by unfold zharm; rw [if_pos q.1]
    rw [this] at hQ
    simp (disch := omega) only [q_232_0, b_232_0, q_232_10, b_232_10, ↓w_iconst, ↓w_aload_n_0, ↓w_getfield, ↓w_if_icmp_ne, ↓w_ifnonnull, ↓w_ireturn0, stw_0, stw_i, stw_l, stw_r, ofK0, ofK1, ofK2, lst1, lst2, lkill, kont_none, kont_some, Int.reduceToNat, List.length_cons, List.length_nil, Nat.reduceAdd, Nat.reduceLeDiff, Nat.zero_le, true_and, and_true, if_true, if_false, ne_eq, Int.reduceEq, Int.reduceNeg, not_false_eq_true, not_true_eq_false, ↓reduceIte, Int.reduceLT, Int.reduceLE, and_self, or_true, true_or, or_false, false_or, false_and, and_false, ah_t_w, ah_m_w, ah_n_w, lst1_0, List.tail_cons, w32_i, zbd, lst2_0, xt_1a hK, x_0, xb_t hK, sz_t hK hZ, sz_11 hK hZ, e8, g, e9, hq9]
    exact hQ h hK Off_rfl
  · obtain ⟨ia, ib, v1, v2, v3, v4⟩ := q.2
    have hN := q.1
    generalize eP : ah_m h (xb h) 9 = P at *
    have f0 : ¬ P = 0 := by omega
    have f1 : 0 < P := by omega
    have t3 := tm5 (p := p) (by omega)
    have t4 := td5 (p := p) (by omega)
    have xb14 : ¬ xb h = 14 := by have := hK.2.1.1.1; unfold BRr at this; omega
    have s14 : ¬ s = 14 := by unfold isS at hZ; omega
    have vv := vme_a v2.1 v2.2
    -- the moment is told
    have fin : ∀ h', Off (fun r i => r = 14) h h' → ah_m h' 14 0 = tw → ah_m h' 14 1 = ck → ah_m h' 14 2 = zoff x y (p % 5) (p / 5) → ah_m h' 14 3 = n - 1 → EV true (zhp tw ck (zoff x y (p % 5) (p / 5)) (n - 1)) (fun _ => 0) h' ∧ Agr h h' := by
      intro h' hO a0 a1 a2 a3
      have hK' : XG T h' := XG_off hK hO (fun r i w => by unfold fix BRr isS isV; omega)
      refine ⟨⟨⟨xt_13a hK', xf_13_0 hK', ?_⟩, fun w w0 w1 w2 => ?_, fun e => by cases e⟩, Agr_off hO (fun r i w => by omega)⟩
      · exact Prod.ext (xt_14a hK') (xt_14b hK')
      · have w2 : w ≤ 3 := w2
        have : w = 0 ∨ w = 1 ∨ w = 2 ∨ w = 3 := by omega
        rcases this with e | e | e | e <;> subst e
        · exact a0
        · exact a1
        · exact a2
        · exact a3
    have hzh : zharm T tw ck (zoff x y (p % 5) (p / 5)) (n - 1) = if 0 < ztop (zrun (zhp tw ck (zoff x y (p % 5) (p / 5)) (n - 1)) (fun _ => 0) (zhl T) []) then ztop (zrun (zhp tw ck (zoff x y (p % 5) (p / 5)) (n - 1)) (fun _ => 0) (zhl T) []) else 0 := by
      unfold zharm; rw [if_neg hN]; split <;> split <;> omega
    have hvb := ztop_b (pt := zhp tw ck (zoff x y (p % 5) (p / 5)) (n - 1)) (of := fun _ => 0) v3
    have done : ∀ h', Off (fun r i => r = 14) h h' → ah_m h' 14 0 = tw → ah_m h' 14 1 = ck → ah_m h' 14 2 = zoff x y (p % 5) (p / 5) → ah_m h' 14 3 = n - 1 → ∀ L, wpL (d + 41) 232 [(.invokevirtual 202, 0, 1, [(18, 163), (15, 156), (17, 161), (19, 165), (16, 159)]), (.invokestatic 208, 0, 2, [(0, 21)]), (.l2i, 0, 0, []), (.ireturn, 0, 0, [])] L [.inr (.inr 13), .inr (.inr P), .inr (.inl 0)] h' Q := by
      intro h' hO a0 a1 a2 a3 L
      have hf := fin h' hO a0 a1 a2 a3
      have hK' : XG T h' := XG_off hK hO (fun r i w => by unfold fix BRr isS isV; omega)
      rw [w_invokevirtual_1p (by decide) (by rw [Off_t hO]; exact vv), Int.toNat_natCast]
      refine ⟨by simp [stw], wpC_deep (v4 h' _ _ _ (AgI_of hf.2 v1.1 v1.2.2.2) hf.1 ?_) (by omega)⟩
      rw [hzh] at hQ
      have hQ := hQ h' hK' hO
      by_cases g2 : 0 < ztop (zrun (zhp tw ck (zoff x y (p % 5) (p / 5)) (n - 1)) (fun _ => 0) (zhl T) [])
      · rw [if_pos g2] at hQ
        simp (disch := omega) only [kont_some, ↓w_invokestatic_2, ↓w_l2i, ↓w_ireturn0, c_21, g2, if_true, w32_i, stw_0, Int.reduceToNat, List.length_cons, List.length_nil, Nat.reduceAdd, Nat.reduceLeDiff, true_and, Nat.zero_le, ne_eq, Int.reduceEq, not_false_eq_true, Int.reduceNeg]
        exact hQ
      · rw [if_neg g2] at hQ
        simp (disch := omega) only [kont_some, ↓w_invokestatic_2, ↓w_l2i, ↓w_ireturn0, c_21, g2, if_false, w32_i, stw_0, Int.reduceToNat, List.length_cons, List.length_nil, Nat.reduceAdd, Nat.reduceLeDiff, true_and, Nat.zero_le, ne_eq, Int.reduceEq, not_false_eq_true, Int.reduceNeg]
        exact hQ
    rcases hck with c0 | c0
    · subst c0
      simp (disch := omega) only [q_232_0, b_232_0, q_232_10, b_232_10, q_232_28, b_232_28, q_232_67, b_232_67, q_232_68, b_232_68, ↓w_iconst, ↓w_lconst, ↓w_aload_n_0, ↓w_iload_n_1, ↓w_iload_n_2, ↓w_isub, ↓w_idiv, ↓w_irem, ↓w_i2l, ↓w_l2i, ↓w_getfield, ↓w_lastore, ↓w_nop, ↓w_goto, ↓w_ifCond_eq, ↓w_if_icmp_ne, ↓w_ifnonnull, ↓w_ireturn0, ↓w_invokevirtual_1, ↓w_invokestatic_2, ↓w_invokestatic_4, stw_0, stw_i, stw_l, stw_r, ofK0, ofK1, ofK2, lst1, lst2, lkill, kont_none, kont_some, Int.reduceToNat, List.length_cons, List.length_nil, Nat.reduceAdd, Nat.reduceLeDiff, Nat.zero_le, true_and, and_true, if_true, if_false, ne_eq, Int.reduceEq, Int.reduceNeg, not_false_eq_true, not_true_eq_false, ↓reduceIte, Int.reduceLT, Int.reduceLE, and_self, or_true, true_or, or_false, false_or, false_and, and_false, ah_t_w, ah_m_w, ah_n_w, lst1_0, List.tail_cons, w32_i, zbd, lst2_0, xt_1a hK, x_0, xf_1_6 hK, xt_13a hK, xb_t hK, sz_t hK hZ, sz_11 hK hZ, e8, g, e9, e10, e0, eP, f0, f1, t3, t4, xb14, s14, c_118, xt_13a hK, xf_13_0 hK, xt_14a hK, xt_14b hK, xb_w]
      refine done _ (Off_w (Off_w (Off_w (Off_w Off_rfl rfl) rfl) rfl) rfl) ?_ ?_ ?_ ?_ _
      all_goals simp [ah_m_w]
    · subst c0
      simp (disch := omega) only [q_232_0, b_232_0, q_232_10, b_232_10, q_232_28, b_232_28, q_232_67, b_232_67, q_232_68, b_232_68, ↓w_iconst, ↓w_lconst, ↓w_aload_n_0, ↓w_iload_n_1, ↓w_iload_n_2, ↓w_isub, ↓w_idiv, ↓w_irem, ↓w_i2l, ↓w_l2i, ↓w_getfield, ↓w_lastore, ↓w_nop, ↓w_goto, ↓w_ifCond_eq, ↓w_if_icmp_ne, ↓w_ifnonnull, ↓w_ireturn0, ↓w_invokevirtual_1, ↓w_invokestatic_2, ↓w_invokestatic_4, stw_0, stw_i, stw_l, stw_r, ofK0, ofK1, ofK2, lst1, lst2, lkill, kont_none, kont_some, Int.reduceToNat, List.length_cons, List.length_nil, Nat.reduceAdd, Nat.reduceLeDiff, Nat.zero_le, true_and, and_true, if_true, if_false, ne_eq, Int.reduceEq, Int.reduceNeg, not_false_eq_true, not_true_eq_false, ↓reduceIte, Int.reduceLT, Int.reduceLE, and_self, or_true, true_or, or_false, false_or, false_and, and_false, ah_t_w, ah_m_w, ah_n_w, lst1_0, List.tail_cons, w32_i, zbd, lst2_0, xt_1a hK, x_0, xf_1_6 hK, xt_13a hK, xb_t hK, sz_t hK hZ, sz_11 hK hZ, e8, g, e9, e10, e0, eP, f0, f1, t3, t4, xb14, s14, c_118, xt_13a hK, xf_13_0 hK, xt_14a hK, xt_14b hK, xb_w]
      refine done _ (Off_w (Off_w (Off_w (Off_w Off_rfl rfl) rfl) rfl) rfl) ?_ ?_ ?_ ?_ _
      all_goals simp [ah_m_w]
end Y5
