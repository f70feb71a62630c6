/-! ===== tests: what they tell ===== -/
def tme (t : Int) : Nat := if t = 21 then 200 else if t = 22 then 202 else if t = 23 then 204 else 206
/-- a test in the heap, by what it tells -/
def TSi (D : Nat) (a b : Int) (h : AH) (p : Int) (cs : List Int) : Prop := (1121 ≤ a ∧ a ≤ p ∧ p < b ∧ b ≤ ah_n h) ∧ (21 ≤ (ah_t h p).1 ∧ (ah_t h p).1 ≤ 24) ∧ TyT cs
  ∧ ∀ (h' : AH) (pt of : Int → Int) (Q : QQ), AgI a b h h' → EV false pt of h' → Q (.inl (some (.inl (ztop (zrun pt of cs []))))) h' → wpC D (tme (ah_t h p).1) [.inr (.inr p), .inr (.inr 15)] h' Q
section E2
variable {W' : Int → Int → Prop} {d : Nat} {h h' h1 h2 h0 : AH} {Q : QQ} {x y z k s a b c v n p q r o i N lo hi A B E F cap el sp dp capL elL capS elS l' m : Int} {S T T' : Int → Int → Int} {t nw nw' pt of tp : Int → Int} {tl : ALoc} {w W V l cs c1 c2 : List Int} {hm : Bool} {D f u : Nat} {its : List (Int × List Int)}
set_option maxHeartbeats 4000000
theorem tme_a {t : Int} (h0 : 21 ≤ t) (h1 : t ≤ 24) : asc [(23, 204), (21, 200), (22, 202), (24, 206)] t = some ((tme t : Nat) : Int) := by
  have : t = 21 ∨ t = 22 ∨ t = 23 ∨ t = 24 := by omega
  rcases this with e | e | e | e <;> subst e <;> rfl
theorem cst_t {t : Int} (h0 : 21 ≤ t) (h1 : t ≤ 24) : (asc [(21, 0), (22, 0), (23, 0), (24, 0)] t).isSome = true := by
  have : t = 21 ∨ t = 22 ∨ t = 23 ∨ t = 24 := by omega
  rcases this with e | e | e | e <;> subst e <;> rfl
theorem TSi_ext (hv : TSi D a b h p cs) (ag : AgI a b h h1) (hn : ah_n h ≤ ah_n h1) : TSi D a b h1 p cs := by
  obtain ⟨v1, v2, v3, v4⟩ := hv
  have e := (ag p v1.2.1 v1.2.2.1).1
  refine ⟨by omega, by rw [e]; exact v2, v3, fun h' pt of Q ag' ev hQ => ?_⟩
  rw [e]
  exact v4 h' pt of Q (fun r r0 r1 => ⟨by rw [(ag' r r0 r1).1, (ag r r0 r1).1], fun i => by rw [(ag' r r0 r1).2, (ag r r0 r1).2]⟩) ev hQ
theorem TSi_deep {D' : Nat} (hv : TSi D a b h p cs) (hD : D ≤ D') : TSi D' a b h p cs := ⟨hv.1, hv.2.1, hv.2.2.1, fun h' pt of Q a e q => wpC_deep (hv.2.2.2 h' pt of Q a e q) hD⟩
theorem TSi_lo (hv : TSi D a b h p cs) (hE : Ext Wrd h h') : TSi D a b h' p cs :=
  TSi_ext hv (fun r r0 r1 => ⟨hE.2.1 r (Or.inl (by have := hv.1; omega)), fun i => hE.2.2 r i (by have := hv.1; omega) (fun w => by have := Wrd_lt _ _ w; have := hv.1; omega)⟩) hE.1.1
theorem TSi_wide (hv : TSi D a b h p cs) (h1 : 1121 ≤ x ∧ x ≤ a ∧ b ≤ y ∧ y ≤ ah_n h) : TSi D x y h p cs :=
  ⟨by have := hv.1; omega, hv.2.1, hv.2.2.1, fun h' pt of Q ag ev hQ => hv.2.2.2 h' pt of Q (fun r r0 r1 => ag r (by omega) (by omega)) ev hQ⟩
theorem zrun_topT {st : List Int} (hT : TyT cs) : zrun pt of cs st = ztop (zrun pt of cs []) :: st := by
  have e := zrun_fr (hm := false) (pt := pt) (of := of) (rest := st) cs [] [] _ trivial (hT [])
  rw [List.nil_append] at e
  have hf := zrun_fit (pt := pt) (of := of) cs [] [] _ trivial (hT [])
  obtain ⟨x, st', e2, b, c⟩ := zfit_c hf
  have : st' = [] := by
    cases st' with
    | nil => rfl
    | cons a b => exact absurd c (by simp [zfit])
  subst this
  rw [e, e2]; rfl
theorem ztop_01 (hT : TyT cs) : ztop (zrun pt of cs []) = 0 ∨ ztop (zrun pt of cs []) = 1 := by
  have hf := zrun_fit (pt := pt) (of := of) cs [] [] _ trivial (hT [])
  obtain ⟨x, st', e2, b, c⟩ := zfit_c hf
  rw [e2]; exact b
/-- a test called -/
theorem clTx {m cc : Nat} {is : List AI} {L : ALoc} {st : AStk} (hv : TSi D i o h v cs) (ag : AgI i o h h') (ev : EV false pt of h') (hst : stw st ≤ 8) (hQ : wpL D m is L (.inl (ztop (zrun pt of cs [])) :: st) h' Q) : wpL D m ((.invokevirtual cc, 0, 1, [(23, 204), (21, 200), (22, 202), (24, 206)]) :: is) L (.inr (.inr 15) :: .inr (.inr v) :: st) h' Q := by
  obtain ⟨v1, v2, v3, v4⟩ := hv
  have e := (ag v (by omega) (by omega)).1
  rw [w_invokevirtual_1p (by decide) (by rw [e]; exact tme_a v2.1 v2.2), Int.toNat_natCast]
  exact ⟨hst, v4 h' pt of _ ag ev (by rw [kont_some]; exact hQ)⟩
/-- all -/
theorem TSi_all (tp : ah_t h p = (23, 0)) (ha : 1121 ≤ a ∧ a ≤ p ∧ p < b ∧ b ≤ ah_n h) (hD : 1 ≤ D) : TSi D a b h p [13] := by
  have e23 : (ah_t h p).1 = 23 := by rw [tp]
  refine ⟨ha, by omega, fun ts => rfl, fun h' pt of Q ag ev hQ => ?_⟩
  rw [e23]
  show wpC D 204 _ h' Q
  obtain ⟨D0, rfl⟩ : ∃ u : Nat, D = u + 1 := ⟨D - 1, by omega⟩
  have : ztop (zrun pt of [13] []) = 1 := rfl
  rw [this] at hQ
  rw [wpC_B]; refine ⟨⟨Nat.zero_lt_succ _, Nat.le_of_ble_eq_true rfl⟩, ?_⟩; simp only [lent]
  simp (disch := omega) only [q_204_0, b_204_0, ↓w_iconst, ↓w_ireturn1, stw_0, stw_i, stw_l, stw_r, ofK0, ofK1, ofK2, lst1, lst2, lkill, kont_none, kont_some, Int.reduceToNat, List.length_cons, List.length_nil, Nat.reduceAdd, Nat.reduceLeDiff, Nat.zero_le, true_and, and_true, if_true, if_false, ne_eq, Int.reduceEq, Int.reduceNeg, not_false_eq_true, not_true_eq_false, ↓reduceIte, Int.reduceLT, Int.reduceLE, and_self, or_true, true_or, or_false, false_or, false_and, and_false, ah_t_w, ah_m_w, ah_n_w, lst1_0, List.tail_cons, w32_i, zbd, lst2_0]
  exact hQ
/-- not -/
theorem TSi_not {i1 j1 : Int} (tp : ah_t h p = (22, 0)) (h0 : ah_m h p 0 = x) (v1 : TSi D i1 j1 h x c1) (hi : a ≤ i1 ∧ j1 ≤ b) (ha : 1121 ≤ a ∧ a ≤ p ∧ p < b ∧ b ≤ ah_n h) : TSi (D + 1) a b h p (c1 ++ [12]) := by
  have e22 : (ah_t h p).1 = 22 := by rw [tp]
  refine ⟨ha, by omega, fun ts => ?_, fun h' pt of Q ag ev hQ => ?_⟩
  · rw [ztl_app, v1.2.2.1 ts]; rfl
  rw [e22]
  show wpC (D + 1) 202 _ h' Q
  have agp := ag p ha.2.1 ha.2.2.1
  have t1 : (ah_t h' p).1 = 22 := by rw [agp.1, tp]
  have m0 : ah_m h' p 0 = x := by rw [agp.2]; exact h0
  have ag1 : AgI i1 j1 h h' := fun r r0 r1 => ag r (by omega) (by omega)
  have hz : ztop (zrun pt of (c1 ++ [12]) []) = 1 - ztop (zrun pt of c1 []) := by
    rw [zrun_app, zrun_topT v1.2.2.1]; rfl
  rw [hz] at hQ
  have b01 := ztop_01 (pt := pt) (of := of) v1.2.2.1
  rw [wpC_B]; refine ⟨⟨Nat.zero_lt_succ _, Nat.le_of_ble_eq_true rfl⟩, ?_⟩; simp only [lent]
  simp (disch := omega) only [q_202_0, b_202_0, ↓w_iconst, ↓w_aload_n_0, ↓w_aload_n_1, ↓w_getfield, ↓w_goto, ↓w_ifCond_ne, ↓w_invokevirtual_1, stw_0, stw_i, stw_l, stw_r, ofK0, ofK1, ofK2, lst1, lst2, lkill, kont_none, kont_some, Int.reduceToNat, List.length_cons, List.length_nil, Nat.reduceAdd, Nat.reduceLeDiff, Nat.zero_le, true_and, and_true, if_true, if_false, ne_eq, Int.reduceEq, Int.reduceNeg, not_false_eq_true, not_true_eq_false, ↓reduceIte, Int.reduceLT, Int.reduceLE, and_self, or_true, true_or, or_false, false_or, false_and, and_false, ah_t_w, ah_m_w, ah_n_w, lst1_0, List.tail_cons, w32_i, zbd, lst2_0, t1, m0]
  refine clTx v1 ag1 ev (by simp [stw]) ?_
  generalize ztop (zrun pt of c1 []) = X at *
  rcases b01 with e | e <;> subst e
  · simp (disch := omega) only [b_202_0, q_202_16, b_202_16, ↓w_iconst, ↓w_aload_n_0, ↓w_aload_n_1, ↓w_getfield, ↓w_goto, ↓w_ifCond_ne, ↓w_ireturn1, ↓w_invokevirtual_1, stw_0, stw_i, stw_l, stw_r, ofK0, ofK1, ofK2, lst1, lst2, lkill, kont_none, kont_some, Int.reduceToNat, List.length_cons, List.length_nil, Nat.reduceAdd, Nat.reduceLeDiff, Nat.zero_le, true_and, and_true, if_true, if_false, ne_eq, Int.reduceEq, Int.reduceNeg, not_false_eq_true, not_true_eq_false, ↓reduceIte, Int.reduceLT, Int.reduceLE, and_self, or_true, true_or, or_false, false_or, false_and, and_false, ah_t_w, ah_m_w, ah_n_w, lst1_0, List.tail_cons, w32_i, zbd, lst2_0]
    exact hQ
  · simp (disch := omega) only [b_202_0, q_202_15, b_202_15, q_202_16, b_202_16, ↓w_iconst, ↓w_aload_n_0, ↓w_aload_n_1, ↓w_getfield, ↓w_nop, ↓w_goto, ↓w_ifCond_ne, ↓w_ireturn1, ↓w_invokevirtual_1, stw_0, stw_i, stw_l, stw_r, ofK0, ofK1, ofK2, lst1, lst2, lkill, kont_none, kont_some, Int.reduceToNat, List.length_cons, List.length_nil, Nat.reduceAdd, Nat.reduceLeDiff, Nat.zero_le, true_and, and_true, if_true, if_false, ne_eq, Int.reduceEq, Int.reduceNeg, not_false_eq_true, not_true_eq_false, ↓reduceIte, Int.reduceLT, Int.reduceLE, and_self, or_true, true_or, or_false, false_or, false_and, and_false, ah_t_w, ah_m_w, ah_n_w, lst1_0, List.tail_cons, w32_i, zbd, lst2_0]
    exact hQ
/-- less, more, alike -/
theorem TSi_than {i1 j1 i2 j2 m : Int} (tp : ah_t h p = (24, 0)) (h0 : ah_m h p 0 = x) (h1 : ah_m h p 1 = y) (h2 : ah_m h p 2 = m) (hm3 : m = 60 ∨ m = 62 ∨ m = 61) (v1 : VSi false D i1 j1 h x c1) (v2 : VSi false D i2 j2 h y c2) (hi : a ≤ i1 ∧ a ≤ i2 ∧ j1 ≤ b ∧ j2 ≤ b) (ha : 1121 ≤ a ∧ a ≤ p ∧ p < b ∧ b ≤ ah_n h) : TSi (D + 1) a b h p (c1 ++ (c2 ++ [if m = 60 then 7 else if m = 62 then 8 else 9])) := by
  have e24 : (ah_t h p).1 = 24 := by rw [tp]
  refine ⟨ha, by omega, fun ts => ?_, fun h' pt of Q ag ev hQ => ?_⟩
  · rw [ztl_app, v1.2.2.1 ts]
    simp only []
    rw [ztl_app, v2.2.2.1]
    rcases hm3 with e | e | e <;> subst e <;> rfl
  rw [e24]
  show wpC (D + 1) 206 _ h' Q
  have agp := ag p ha.2.1 ha.2.2.1
  have t1 : (ah_t h' p).1 = 24 := by rw [agp.1, tp]
  have m0 : ah_m h' p 0 = x := by rw [agp.2]; exact h0
  have m1 : ah_m h' p 1 = y := by rw [agp.2]; exact h1
  have m2 : ah_m h' p 2 = m := by rw [agp.2]; exact h2
  have ag1 : AgI i1 j1 h h' := fun r r0 r1 => ag r (by omega) (by omega)
  have ag2 : AgI i2 j2 h h' := fun r r0 r1 => ag r (by omega) (by omega)
  have hz : ∀ op : Int, 1 ≤ op → op ≤ 11 → ztop (zrun pt of (c1 ++ (c2 ++ [op])) []) = zjo op (ztop (zrun pt of c1 [])) (ztop (zrun pt of c2 [])) := by
    intro op o1 o2
    rw [zrun_app, zrun_top v1.2.2.1, zrun_app, zrun_top v2.2.2.1]
    simp only [zrun, zst]
    rw [if_neg (by omega), if_neg (by omega), if_neg (by omega), if_neg (by omega), if_neg (by omega)]
    rfl
  rw [wpC_B]; refine ⟨⟨Nat.zero_lt_succ _, Nat.le_of_ble_eq_true rfl⟩, ?_⟩; simp only [lent]
  simp (disch := omega) only [q_206_0, b_206_0, ↓w_iconst, ↓w_bipush, ↓w_aload_n_0, ↓w_aload_n_1, ↓w_lload_n_2, ↓w_lload_4, ↓w_lstore, ↓w_lstore_n_2, ↓w_lcmp, ↓w_getfield, ↓w_goto, ↓w_if_icmp_ne, ↓w_ifCond_ge, ↓w_invokevirtual_1, stw_0, stw_i, stw_l, stw_r, ofK0, ofK1, ofK2, lst1, lst2, lkill, kont_none, kont_some, Int.reduceToNat, List.length_cons, List.length_nil, Nat.reduceAdd, Nat.reduceLeDiff, Nat.zero_le, true_and, and_true, if_true, if_false, ne_eq, Int.reduceEq, Int.reduceNeg, not_false_eq_true, not_true_eq_false, ↓reduceIte, Int.reduceLT, Int.reduceLE, and_self, or_true, true_or, or_false, false_or, false_and, and_false, ah_t_w, ah_m_w, ah_n_w, lst1_0, List.tail_cons, w32_i, zbd, lst2_0, lc_gt, lc_lt, lc_eq, t1, m0]
  refine clVx v1 ag1 ev (by simp [stw]) ?_
  simp (disch := omega) only [b_206_0, ↓w_iconst, ↓w_bipush, ↓w_aload_n_0, ↓w_aload_n_1, ↓w_lload_n_2, ↓w_lload_4, ↓w_lstore, ↓w_lstore_n_2, ↓w_lcmp, ↓w_getfield, ↓w_goto, ↓w_if_icmp_ne, ↓w_ifCond_ge, ↓w_invokevirtual_1, stw_0, stw_i, stw_l, stw_r, ofK0, ofK1, ofK2, lst1, lst2, lkill, kont_none, kont_some, Int.reduceToNat, List.length_cons, List.length_nil, Nat.reduceAdd, Nat.reduceLeDiff, Nat.zero_le, true_and, and_true, if_true, if_false, ne_eq, Int.reduceEq, Int.reduceNeg, not_false_eq_true, not_true_eq_false, ↓reduceIte, Int.reduceLT, Int.reduceLE, and_self, or_true, true_or, or_false, false_or, false_and, and_false, ah_t_w, ah_m_w, ah_n_w, lst1_0, List.tail_cons, w32_i, zbd, lst2_0, lc_gt, lc_lt, lc_eq, t1, m1]
  refine clVx v2 ag2 ev (by simp [stw]) ?_
  rcases hm3 with e | e | e <;> subst e
  · rw [if_pos rfl, hz 7 (by omega) (by omega)] at hQ
    generalize ztop (zrun pt of c1 []) = X at *
    generalize ztop (zrun pt of c2 []) = Y at *
    have ej : zjo 7 X Y = if X < Y then 1 else 0 := rfl
    rw [ej] at hQ
    by_cases g : X < Y
    · rw [if_pos g] at hQ
      simp (disch := omega) only [b_206_0, q_206_79, b_206_79, ↓w_iconst, ↓w_bipush, ↓w_aload_n_0, ↓w_aload_n_1, ↓w_lload_n_2, ↓w_lload_4, ↓w_lstore, ↓w_lstore_n_2, ↓w_lcmp, ↓w_getfield, ↓w_goto, ↓w_if_icmp_ne, ↓w_ifCond_ge, ↓w_ireturn1, ↓w_invokevirtual_1, stw_0, stw_i, stw_l, stw_r, ofK0, ofK1, ofK2, lst1, lst2, lkill, kont_none, kont_some, Int.reduceToNat, List.length_cons, List.length_nil, Nat.reduceAdd, Nat.reduceLeDiff, Nat.zero_le, true_and, and_true, if_true, if_false, ne_eq, Int.reduceEq, Int.reduceNeg, not_false_eq_true, not_true_eq_false, ↓reduceIte, Int.reduceLT, Int.reduceLE, and_self, or_true, true_or, or_false, false_or, false_and, and_false, ah_t_w, ah_m_w, ah_n_w, lst1_0, List.tail_cons, w32_i, zbd, lst2_0, lc_gt, lc_lt, lc_eq, t1, m2, g]
      exact hQ
    · rw [if_neg g] at hQ
      simp (disch := omega) only [b_206_0, q_206_39, b_206_39, q_206_79, b_206_79, ↓w_iconst, ↓w_bipush, ↓w_aload_n_0, ↓w_aload_n_1, ↓w_lload_n_2, ↓w_lload_4, ↓w_lstore, ↓w_lstore_n_2, ↓w_lcmp, ↓w_getfield, ↓w_goto, ↓w_if_icmp_ne, ↓w_ifCond_ge, ↓w_ireturn1, ↓w_invokevirtual_1, stw_0, stw_i, stw_l, stw_r, ofK0, ofK1, ofK2, lst1, lst2, lkill, kont_none, kont_some, Int.reduceToNat, List.length_cons, List.length_nil, Nat.reduceAdd, Nat.reduceLeDiff, Nat.zero_le, true_and, and_true, if_true, if_false, ne_eq, Int.reduceEq, Int.reduceNeg, not_false_eq_true, not_true_eq_false, ↓reduceIte, Int.reduceLT, Int.reduceLE, and_self, or_true, true_or, or_false, false_or, false_and, and_false, ah_t_w, ah_m_w, ah_n_w, lst1_0, List.tail_cons, w32_i, zbd, lst2_0, lc_gt, lc_lt, lc_eq, t1, m2, g]
      exact hQ
  · rw [if_neg (by decide), if_pos rfl, hz 8 (by omega) (by omega)] at hQ
    generalize ztop (zrun pt of c1 []) = X at *
    generalize ztop (zrun pt of c2 []) = Y at *
    have ej : zjo 8 X Y = if Y < X then 1 else 0 := rfl
    rw [ej] at hQ
    by_cases g : Y < X
    · rw [if_pos g] at hQ
      simp (disch := omega) only [b_206_0, q_206_43, b_206_43, q_206_79, b_206_79, ↓w_iconst, ↓w_bipush, ↓w_aload_n_0, ↓w_aload_n_1, ↓w_lload_n_2, ↓w_lload_4, ↓w_lstore, ↓w_lstore_n_2, ↓w_lcmp, ↓w_getfield, ↓w_goto, ↓w_if_icmp_ne, ↓w_ifCond_ge, ↓w_ifCond_le, ↓w_ireturn1, ↓w_invokevirtual_1, stw_0, stw_i, stw_l, stw_r, ofK0, ofK1, ofK2, lst1, lst2, lkill, kont_none, kont_some, Int.reduceToNat, List.length_cons, List.length_nil, Nat.reduceAdd, Nat.reduceLeDiff, Nat.zero_le, true_and, and_true, if_true, if_false, ne_eq, Int.reduceEq, Int.reduceNeg, not_false_eq_true, not_true_eq_false, ↓reduceIte, Int.reduceLT, Int.reduceLE, and_self, or_true, true_or, or_false, false_or, false_and, and_false, ah_t_w, ah_m_w, ah_n_w, lst1_0, List.tail_cons, w32_i, zbd, lst2_0, lc_gt, lc_lt, lc_eq, t1, m2, g]
      exact hQ
    · rw [if_neg g] at hQ
      simp (disch := omega) only [b_206_0, q_206_43, b_206_43, q_206_63, b_206_63, q_206_79, b_206_79, ↓w_iconst, ↓w_bipush, ↓w_aload_n_0, ↓w_aload_n_1, ↓w_lload_n_2, ↓w_lload_4, ↓w_lstore, ↓w_lstore_n_2, ↓w_lcmp, ↓w_getfield, ↓w_goto, ↓w_if_icmp_ne, ↓w_ifCond_ge, ↓w_ifCond_le, ↓w_ireturn1, ↓w_invokevirtual_1, stw_0, stw_i, stw_l, stw_r, ofK0, ofK1, ofK2, lst1, lst2, lkill, kont_none, kont_some, Int.reduceToNat, List.length_cons, List.length_nil, Nat.reduceAdd, Nat.reduceLeDiff, Nat.zero_le, true_and, and_true, if_true, if_false, ne_eq, Int.reduceEq, Int.reduceNeg, not_false_eq_true, not_true_eq_false, ↓reduceIte, Int.reduceLT, Int.reduceLE, and_self, or_true, true_or, or_false, false_or, false_and, and_false, ah_t_w, ah_m_w, ah_n_w, lst1_0, List.tail_cons, w32_i, zbd, lst2_0, lc_gt, lc_lt, lc_eq, t1, m2, g]
      exact hQ
  · rw [if_neg (by decide), if_neg (by decide), hz 9 (by omega) (by omega)] at hQ
    generalize ztop (zrun pt of c1 []) = X at *
    generalize ztop (zrun pt of c2 []) = Y at *
    have ej : zjo 9 X Y = if X = Y then 1 else 0 := rfl
    rw [ej] at hQ
    by_cases g : X = Y
    · rw [if_pos g] at hQ
      simp (disch := omega) only [b_206_0, q_206_43, b_206_43, q_206_67, b_206_67, q_206_79, b_206_79, ↓w_iconst, ↓w_bipush, ↓w_aload_n_0, ↓w_aload_n_1, ↓w_lload_n_2, ↓w_lload_4, ↓w_lstore, ↓w_lstore_n_2, ↓w_lcmp, ↓w_getfield, ↓w_goto, ↓w_ifCond_ne, ↓w_if_icmp_ne, ↓w_ifCond_ge, ↓w_ifCond_le, ↓w_ireturn1, ↓w_invokevirtual_1, stw_0, stw_i, stw_l, stw_r, ofK0, ofK1, ofK2, lst1, lst2, lkill, kont_none, kont_some, Int.reduceToNat, List.length_cons, List.length_nil, Nat.reduceAdd, Nat.reduceLeDiff, Nat.zero_le, true_and, and_true, if_true, if_false, ne_eq, Int.reduceEq, Int.reduceNeg, not_false_eq_true, not_true_eq_false, ↓reduceIte, Int.reduceLT, Int.reduceLE, and_self, or_true, true_or, or_false, false_or, false_and, and_false, ah_t_w, ah_m_w, ah_n_w, lst1_0, List.tail_cons, w32_i, zbd, lst2_0, lc_gt, lc_lt, lc_eq, t1, m2, eq_true g]
      exact hQ
    · rw [if_neg g] at hQ
      simp (disch := omega) only [b_206_0, q_206_43, b_206_43, q_206_67, b_206_67, q_206_78, b_206_78, q_206_79, b_206_79, ↓w_iconst, ↓w_bipush, ↓w_aload_n_0, ↓w_aload_n_1, ↓w_lload_n_2, ↓w_lload_4, ↓w_lstore, ↓w_lstore_n_2, ↓w_lcmp, ↓w_getfield, ↓w_nop, ↓w_goto, ↓w_ifCond_ne, ↓w_if_icmp_ne, ↓w_ifCond_ge, ↓w_ifCond_le, ↓w_ireturn1, ↓w_invokevirtual_1, stw_0, stw_i, stw_l, stw_r, ofK0, ofK1, ofK2, lst1, lst2, lkill, kont_none, kont_some, Int.reduceToNat, List.length_cons, List.length_nil, Nat.reduceAdd, Nat.reduceLeDiff, Nat.zero_le, true_and, and_true, if_true, if_false, ne_eq, Int.reduceEq, Int.reduceNeg, not_false_eq_true, not_true_eq_false, ↓reduceIte, Int.reduceLT, Int.reduceLE, and_self, or_true, true_or, or_false, false_or, false_and, and_false, ah_t_w, ah_m_w, ah_n_w, lst1_0, List.tail_cons, w32_i, zbd, lst2_0, lc_gt, lc_lt, lc_eq, t1, m2, g]
      exact hQ
end E2
