/-! ===== sums: what chains tell ===== -/
def zop (s : Int) : Int := if s = 43 then 1 else if s = 45 then 2 else if s = 42 then 3 else 4
def zchr : List (Int × List Int) → List Int
  | [] => []
  | q :: r => q.2 ++ (zop q.1 :: zchr r)
def zchc : List (Int × List Int) → List Int
  | [] => []
  | q :: r => q.2 ++ zchr r
section B9
variable {W' : Int → Int → Prop} {d : Nat} {h h' h1 h2 h0 : AH} {Q : QQ} {x y z k s a b c v n p q r o i f N lo hi A B E cap el sp dp : Int} {S T T' : Int → Int → Int} {t nw nw' pt of tp : Int → Int} {tl : ALoc} {w u W l cs : List Int} {hm : Bool} {D : Nat}
set_option maxHeartbeats 4000000
theorem zst_fr {st rest : List Int} {ts ts' : List Bool} (hf : zfit st ts) (ht : zty hm c ts = some ts') : zst pt of c (st ++ rest) = zst pt of c st ++ rest := by
  unfold zty at ht
  unfold zst
  by_cases h1 : 1000 ≤ c
  · rw [if_pos h1, if_pos h1]; rfl
  rw [if_neg h1] at ht ⊢; rw [if_neg h1]
  by_cases h2 : 60 ≤ c
  · rw [if_pos h2] at ht ⊢; rw [if_pos h2]
    cases st with
    | nil =>
      cases ts with
      | nil => simp at ht
      | cons a ts => exact absurd hf (by simp [zfit])
    | cons v st => rfl
  rw [if_neg h2] at ht ⊢; rw [if_neg h2]
  by_cases h3 : 40 ≤ c
  · rw [if_pos h3, if_pos h3]; rfl
  rw [if_neg h3] at ht ⊢; rw [if_neg h3]
  by_cases h4 : hm = true ∧ 6 < c
  · rw [if_pos h4] at ht; cases ht
  rw [if_neg h4] at ht
  by_cases h5 : c = 13
  · rw [if_pos h5, if_pos h5]; rfl
  rw [if_neg h5] at ht ⊢; rw [if_neg h5]
  by_cases h6 : c = 12
  · rw [if_pos h6] at ht ⊢; rw [if_pos h6]
    cases st with
    | nil =>
      cases ts with
      | nil => simp at ht
      | cons a ts => exact absurd hf (by simp [zfit])
    | cons v st => rfl
  rw [if_neg h6] at ht ⊢; rw [if_neg h6]
  have two : ∃ a b ts2, ts = a :: b :: ts2 := by
    cases ts with
    | nil => simp at ht
    | cons a ts =>
      cases ts with
      | nil => cases a <;> simp at ht
      | cons b ts => exact ⟨a, b, ts, rfl⟩
  obtain ⟨ta, tb, ts2, rfl⟩ := two
  cases st with
  | nil => exact absurd hf (by simp [zfit])
  | cons v st =>
    cases st with
    | nil => exact absurd hf.2 (by simp [zfit])
    | cons v2 st => rfl
theorem zrun_fr {rest : List Int} : ∀ (cs : List Int) (st : List Int) (ts ts' : List Bool), zfit st ts → ztl hm cs ts = some ts' → zrun pt of cs (st ++ rest) = zrun pt of cs st ++ rest := by
  intro cs
  induction cs with
  | nil => intro st ts ts' _ _; rfl
  | cons c cs ih =>
    intro st ts ts' hf ht
    simp only [ztl] at ht
    cases e : zty hm c ts with
    | none => rw [e] at ht; cases ht
    | some ts1 =>
      rw [e] at ht
      simp only [zrun]
      rw [zst_fr hf e]
      exact ih _ _ _ (zst_fit hf e) ht
theorem zrun_top {st : List Int} (hT : TyS hm cs) : zrun pt of cs st = ztop (zrun pt of cs []) :: st := by
  have e := zrun_fr (hm := hm) (pt := pt) (of := of) (rest := st) cs [] [] _ trivial (hT [])
  rw [List.nil_append] at e
  have hf := zrun_fit (pt := pt) (of := of) cs [] [] _ trivial (hT [])
  obtain ⟨x, st', e2, b, c⟩ := zfit_c hf
  have : st' = [] := by
    cases st' with
    | nil => rfl
    | cons a b => exact absurd c (by simp [zfit])
  subst this
  rw [e, e2]; rfl
/-- one more of a chain -/
theorem zrun_chr {st : List Int} {g : Int × List Int} {L : List (Int × List Int)} (hT : TyS hm g.2) (hs : isSg g.1) : zrun pt of (zchr (g :: L)) (v :: st) = zrun pt of (zchr L) (zjo (zop g.1) v (ztop (zrun pt of g.2 [])) :: st) := by
  simp only [zchr]
  rw [zrun_app, zrun_top hT]
  simp only [zrun]
  congr 1
  unfold isSg at hs
  have ho : 1 ≤ zop g.1 ∧ zop g.1 ≤ 4 := by unfold zop; split; omega; split; omega; split <;> omega
  unfold zst
  rw [if_neg (by omega), if_neg (by omega), if_neg (by omega), if_neg (by omega), if_neg (by omega)]
/-! floorDiv -/
theorem lxor_n (ha : -9223372036854775808 ≤ a ∧ a < 9223372036854775808) (hb : -9223372036854775808 ≤ b ∧ b < 9223372036854775808) : lxor_ a b < 0 ↔ (a < 0 ∧ ¬ b < 0) ∨ (¬ a < 0 ∧ b < 0) := by
  have ta : (Int64.ofInt a).toInt = a := by
    rw [Int64.toInt_ofInt, show Int64.size = 18446744073709551616 from rfl]; unfold Int.bmod; simp only; split <;> omega
  have tb : (Int64.ofInt b).toInt = b := by
    rw [Int64.toInt_ofInt, show Int64.size = 18446744073709551616 from rfl]; unfold Int.bmod; simp only; split <;> omega
  have e1 : lxor_ a b = ((Int64.ofInt a).toBitVec ^^^ (Int64.ofInt b).toBitVec).toInt := rfl
  have ma : (Int64.ofInt a).toBitVec.msb = decide (a < 0) := by rw [BitVec.msb_eq_toInt]; congr 1; exact congrArg (· < 0) ta
  have mb : (Int64.ofInt b).toBitVec.msb = decide (b < 0) := by rw [BitVec.msb_eq_toInt]; congr 1; exact congrArg (· < 0) tb
  have mx := BitVec.msb_xor (x := (Int64.ofInt a).toBitVec) (y := (Int64.ofInt b).toBitVec)
  rw [BitVec.msb_eq_toInt, ma, mb, ← e1] at mx
  by_cases g1 : a < 0 <;> by_cases g2 : b < 0 <;> simp [g1, g2] at mx ⊢ <;> omega
theorem c_22 (ha : -1000000 ≤ a ∧ a ≤ 1000000) (hb : -1000000 ≤ b ∧ b ≤ 1000000) (hb0 : b ≠ 0) : wpC (d + 1) 22 [.inr (.inl a), .inr (.inl b)] h Q ↔ Q (.inl (some (.inr (.inl (zfl a b))))) h := by
  have hq : -1000000 ≤ a.tdiv b ∧ a.tdiv b ≤ 1000000 := by
    have h1 := Int.natAbs_tdiv_le_natAbs a b
    omega
  have hx := lxor_n (a := a) (b := b) (by omega) (by omega)
  have hdm : a.tdiv b * b + a.tmod b = a := Int.tdiv_mul_add_tmod a b
  have hpb : -9223372036854775808 ≤ a.tdiv b * b ∧ a.tdiv b * b < 9223372036854775808 := by
    have h1 : (a.tdiv b * b).natAbs = (a.tdiv b).natAbs * b.natAbs := Int.natAbs_mul _ _
    have h2 : (a.tdiv b).natAbs * b.natAbs ≤ 1000000 * 1000000 := Nat.mul_le_mul (by omega) (by omega)
    omega
  have hm0 : (a.tdiv b * b = a) ↔ a.tmod b = 0 := by omega
  unfold zfl
  rw [if_neg hb0]
  apply CT_iff; apply CT_of; rw [wpC_B]; refine ⟨⟨Nat.zero_lt_succ _, Nat.le_of_ble_eq_true rfl⟩, ?_⟩; simp only [lent]
  by_cases g : (a < 0 ∧ ¬ b < 0) ∨ (¬ a < 0 ∧ b < 0)
  · have gx := hx.2 g
    have gx' : ¬ 0 ≤ lxor_ a b := by omega
    by_cases g2 : a.tmod b = 0
    · rw [if_neg (fun z => z.1 g2)]
      have g3 := hm0.2 g2
      simp (disch := omega) only [q_22_0, b_22_0, q_22_27, b_22_27, ↓w_lconst, ↓w_lload_n_0, ↓w_lload_n_2, ↓w_lload_4, ↓w_lstore, ↓w_lsub, ↓w_lmul, ↓w_lxor, ↓w_lcmp, ↓w_ldiv, ↓w_ifCond_eq, ↓w_ifCond_ge, ↓w_lreturn, stw_0, stw_i, stw_l, stw_r, ofK0, ofK1, ofK2, lst1, lst2, lkill, kont_none, kont_some, Int.reduceToNat, List.length_cons, List.length_nil, Nat.reduceAdd, Nat.reduceLeDiff, Nat.zero_le, true_and, and_true, if_true, if_false, ne_eq, Int.reduceEq, Int.reduceNeg, not_false_eq_true, not_true_eq_false, ↓reduceIte, Int.reduceLT, Int.reduceLE, and_self, or_true, true_or, or_false, false_or, false_and, and_false, ah_t_w, ah_m_w, ah_n_w, lst1_0, List.tail_cons, w32_i, zbd, lst2_0, lc_gt, lc_lt, lc_eq, hb0, w64_i, gx, g3]
    · rw [if_pos ⟨g2, g⟩]
      have g3 : ¬ a.tdiv b * b = a := fun z => g2 (hm0.1 z)
      simp (disch := omega) only [q_22_0, b_22_0, q_22_27, b_22_27, ↓w_lconst, ↓w_lload_n_0, ↓w_lload_n_2, ↓w_lload_4, ↓w_lstore, ↓w_lsub, ↓w_lmul, ↓w_lxor, ↓w_lcmp, ↓w_ldiv, ↓w_ifCond_eq, ↓w_ifCond_ge, ↓w_lreturn, stw_0, stw_i, stw_l, stw_r, ofK0, ofK1, ofK2, lst1, lst2, lkill, kont_none, kont_some, Int.reduceToNat, List.length_cons, List.length_nil, Nat.reduceAdd, Nat.reduceLeDiff, Nat.zero_le, true_and, and_true, if_true, if_false, ne_eq, Int.reduceEq, Int.reduceNeg, not_false_eq_true, not_true_eq_false, ↓reduceIte, Int.reduceLT, Int.reduceLE, and_self, or_true, true_or, or_false, false_or, false_and, and_false, ah_t_w, ah_m_w, ah_n_w, lst1_0, List.tail_cons, w32_i, zbd, lst2_0, lc_gt, lc_lt, lc_eq, hb0, w64_i, gx, g3]
  · rw [if_neg (fun z => g z.2)]
    have gx : ¬ lxor_ a b < 0 := fun z => g (hx.1 z)
    simp (disch := omega) only [q_22_0, b_22_0, q_22_27, b_22_27, ↓w_lconst, ↓w_lload_n_0, ↓w_lload_n_2, ↓w_lload_4, ↓w_lstore, ↓w_lsub, ↓w_lmul, ↓w_lxor, ↓w_lcmp, ↓w_ldiv, ↓w_ifCond_eq, ↓w_ifCond_ge, ↓w_lreturn, stw_0, stw_i, stw_l, stw_r, ofK0, ofK1, ofK2, lst1, lst2, lkill, kont_none, kont_some, Int.reduceToNat, List.length_cons, List.length_nil, Nat.reduceAdd, Nat.reduceLeDiff, Nat.zero_le, true_and, and_true, if_true, if_false, ne_eq, Int.reduceEq, Int.reduceNeg, not_false_eq_true, not_true_eq_false, ↓reduceIte, Int.reduceLT, Int.reduceLE, and_self, or_true, true_or, or_false, false_or, false_and, and_false, ah_t_w, ah_m_w, ah_n_w, lst1_0, List.tail_cons, w32_i, zbd, lst2_0, lc_gt, lc_lt, lc_eq, hb0, w64_i, gx]
theorem c_157 (hc : isSg c) (ha : -1000000 ≤ a ∧ a ≤ 1000000) (hb : -1000000 ≤ b ∧ b ≤ 1000000) : wpC (d + 2) 157 [.inl c, .inr (.inl a), .inr (.inl b)] h Q ↔ Q (.inl (some (.inr (.inl (if c = 43 then a + b else if c = 45 then a - b else if c = 42 then a * b else zfl a b))))) h := by
  unfold isSg at hc
  have pb : -9223372036854775808 ≤ a * b ∧ a * b < 9223372036854775808 := by
    have h1 : (a * b).natAbs = a.natAbs * b.natAbs := Int.natAbs_mul a b
    have h2 : a.natAbs * b.natAbs ≤ 1000000 * 1000000 := Nat.mul_le_mul (by omega) (by omega)
    omega
  apply CT_iff; apply CT_of; rw [wpC_B]; refine ⟨⟨Nat.zero_lt_succ _, Nat.le_of_ble_eq_true rfl⟩, ?_⟩; simp only [lent]
  rcases hc with e | e | e | e <;> subst e
  · simp (disch := omega) only [q_157_0, b_157_0, q_157_32, b_157_32, q_157_36, b_157_36, q_157_40, b_157_40, q_157_44, b_157_44, q_157_54, b_157_54, q_157_59, b_157_59, ↓w_lconst, ↓w_iload_n_0, ↓w_lload_n_1, ↓w_lload_n_3, ↓w_ladd, ↓w_lsub, ↓w_lmul, ↓w_lcmp, ↓w_nop, ↓w_goto, ↓w_ifCond_ne, ↓w_tableswitch, ↓w_lreturn, ↓w_invokestatic_2, stw_0, stw_i, stw_l, stw_r, ofK0, ofK1, ofK2, lst1, lst2, lkill, kont_none, kont_some, Int.reduceToNat, List.length_cons, List.length_nil, Nat.reduceAdd, Nat.reduceLeDiff, Nat.zero_le, true_and, and_true, if_true, if_false, ne_eq, Int.reduceEq, Int.reduceNeg, not_false_eq_true, not_true_eq_false, ↓reduceIte, Int.reduceLT, Int.reduceLE, and_self, or_true, true_or, or_false, false_or, false_and, and_false, ah_t_w, ah_m_w, ah_n_w, lst1_0, List.tail_cons, w32_i, zbd, lst2_0, asc, Option.getD_some, Option.getD_none, lc_gt, lc_lt, lc_eq, w64_i]
  · simp (disch := omega) only [q_157_0, b_157_0, q_157_32, b_157_32, q_157_36, b_157_36, q_157_40, b_157_40, q_157_44, b_157_44, q_157_54, b_157_54, q_157_59, b_157_59, ↓w_lconst, ↓w_iload_n_0, ↓w_lload_n_1, ↓w_lload_n_3, ↓w_ladd, ↓w_lsub, ↓w_lmul, ↓w_lcmp, ↓w_nop, ↓w_goto, ↓w_ifCond_ne, ↓w_tableswitch, ↓w_lreturn, ↓w_invokestatic_2, stw_0, stw_i, stw_l, stw_r, ofK0, ofK1, ofK2, lst1, lst2, lkill, kont_none, kont_some, Int.reduceToNat, List.length_cons, List.length_nil, Nat.reduceAdd, Nat.reduceLeDiff, Nat.zero_le, true_and, and_true, if_true, if_false, ne_eq, Int.reduceEq, Int.reduceNeg, not_false_eq_true, not_true_eq_false, ↓reduceIte, Int.reduceLT, Int.reduceLE, and_self, or_true, true_or, or_false, false_or, false_and, and_false, ah_t_w, ah_m_w, ah_n_w, lst1_0, List.tail_cons, w32_i, zbd, lst2_0, asc, Option.getD_some, Option.getD_none, lc_gt, lc_lt, lc_eq, w64_i]
  · simp (disch := omega) only [q_157_0, b_157_0, q_157_32, b_157_32, q_157_36, b_157_36, q_157_40, b_157_40, q_157_44, b_157_44, q_157_54, b_157_54, q_157_59, b_157_59, ↓w_lconst, ↓w_iload_n_0, ↓w_lload_n_1, ↓w_lload_n_3, ↓w_ladd, ↓w_lsub, ↓w_lmul, ↓w_lcmp, ↓w_nop, ↓w_goto, ↓w_ifCond_ne, ↓w_tableswitch, ↓w_lreturn, ↓w_invokestatic_2, stw_0, stw_i, stw_l, stw_r, ofK0, ofK1, ofK2, lst1, lst2, lkill, kont_none, kont_some, Int.reduceToNat, List.length_cons, List.length_nil, Nat.reduceAdd, Nat.reduceLeDiff, Nat.zero_le, true_and, and_true, if_true, if_false, ne_eq, Int.reduceEq, Int.reduceNeg, not_false_eq_true, not_true_eq_false, ↓reduceIte, Int.reduceLT, Int.reduceLE, and_self, or_true, true_or, or_false, false_or, false_and, and_false, ah_t_w, ah_m_w, ah_n_w, lst1_0, List.tail_cons, w32_i, zbd, lst2_0, asc, Option.getD_some, Option.getD_none, lc_gt, lc_lt, lc_eq, w64_i]
  · by_cases g : b = 0
    · have : zfl a b = 0 := by unfold zfl; rw [if_pos g]
      rw [this]
      simp (disch := omega) only [q_157_0, b_157_0, q_157_32, b_157_32, q_157_36, b_157_36, q_157_40, b_157_40, q_157_44, b_157_44, q_157_54, b_157_54, q_157_59, b_157_59, ↓w_lconst, ↓w_iload_n_0, ↓w_lload_n_1, ↓w_lload_n_3, ↓w_ladd, ↓w_lsub, ↓w_lmul, ↓w_lcmp, ↓w_nop, ↓w_goto, ↓w_ifCond_ne, ↓w_tableswitch, ↓w_lreturn, ↓w_invokestatic_2, stw_0, stw_i, stw_l, stw_r, ofK0, ofK1, ofK2, lst1, lst2, lkill, kont_none, kont_some, Int.reduceToNat, List.length_cons, List.length_nil, Nat.reduceAdd, Nat.reduceLeDiff, Nat.zero_le, true_and, and_true, if_true, if_false, ne_eq, Int.reduceEq, Int.reduceNeg, not_false_eq_true, not_true_eq_false, ↓reduceIte, Int.reduceLT, Int.reduceLE, and_self, or_true, true_or, or_false, false_or, false_and, and_false, ah_t_w, ah_m_w, ah_n_w, lst1_0, List.tail_cons, w32_i, zbd, lst2_0, asc, Option.getD_some, Option.getD_none, lc_gt, lc_lt, lc_eq, g]
    · simp (disch := omega) only [q_157_0, b_157_0, q_157_32, b_157_32, q_157_36, b_157_36, q_157_40, b_157_40, q_157_44, b_157_44, q_157_54, b_157_54, q_157_59, b_157_59, ↓w_lconst, ↓w_iload_n_0, ↓w_lload_n_1, ↓w_lload_n_3, ↓w_ladd, ↓w_lsub, ↓w_lmul, ↓w_lcmp, ↓w_nop, ↓w_goto, ↓w_ifCond_ne, ↓w_tableswitch, ↓w_lreturn, ↓w_invokestatic_2, stw_0, stw_i, stw_l, stw_r, ofK0, ofK1, ofK2, lst1, lst2, lkill, kont_none, kont_some, Int.reduceToNat, List.length_cons, List.length_nil, Nat.reduceAdd, Nat.reduceLeDiff, Nat.zero_le, true_and, and_true, if_true, if_false, ne_eq, Int.reduceEq, Int.reduceNeg, not_false_eq_true, not_true_eq_false, ↓reduceIte, Int.reduceLT, Int.reduceLE, and_self, or_true, true_or, or_false, false_or, false_and, and_false, ah_t_w, ah_m_w, ah_n_w, lst1_0, List.tail_cons, w32_i, zbd, lst2_0, asc, Option.getD_some, Option.getD_none, lc_gt, lc_lt, lc_eq, g, c_22 ha hb g]
theorem held_zjo (hc : isSg c) (ha : -1000000 ≤ a ∧ a ≤ 1000000) : zclip (if c = 43 then a + b else if c = 45 then a - b else if c = 42 then a * b else zfl a b) = zjo (zop c) a b := by
  unfold isSg at hc
  have := zfl_b (a := a) (b := b) ha.1 ha.2
  rcases hc with e | e | e | e <;> subst e
  · have e1 : zop 42 = 3 := by decide
    rw [e1, if_neg (by decide), if_neg (by decide), if_pos (by decide)]; unfold zjo; rw [if_neg (by decide), if_neg (by decide), if_pos (by decide)]
  · have e1 : zop 43 = 1 := by decide
    rw [e1, if_pos (by decide)]; unfold zjo; rw [if_pos (by decide)]
  · have e1 : zop 45 = 2 := by decide
    rw [e1, if_neg (by decide), if_pos (by decide)]; unfold zjo; rw [if_neg (by decide), if_pos (by decide)]
  · have e1 : zop 47 = 4 := by decide
    rw [e1, if_neg (by decide), if_neg (by decide), if_neg (by decide)]; unfold zjo; rw [if_neg (by decide), if_neg (by decide), if_neg (by decide), if_pos (by decide)]
    exact zclip_i this.1 this.2
end B9
