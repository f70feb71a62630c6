/-! ===== M: option, letter, seeds, what is put aside ===== -/
def zopt (T : Int → Int → Int) (nw : Int → Int) (k w : Int) : Int :=
  if 0 ≤ w ∧ w ≤ 4 then (if k < 0 ∨ zcr T nw = true then -1 else match zpk (zmv T nw) 0 k with
    | none => -1
    | some x => if w = 0 then x.1 else if w = 1 then x.2 % T 1074 4 else if w = 2 then x.2 / T 1074 4 else if w = 3 then (if zat T nw (x.2 % T 1074 4) (x.2 / T 1074 4) = -1 then 255 else zat T nw (x.2 % T 1074 4) (x.2 / T 1074 4)) else zb (zchk T (zdo T nw x.1 x.2) (zdo T nw x.1 x.2 1))) else -1
def zcnt : Nat → Int → Int
  | 0, _ => 0
  | j + 1, z => if 0 < z then 1 + zcnt j (z / 27) else 0
def zdv : Nat → Int → Int
  | 0, z => z
  | j + 1, z => zdv j (z / 27)
def zlet (v k : Int) : Int := if k < zcnt 6 v then zdv (zcnt 6 v - 1 - k).toNat v % 27 else 0
/-- bounds of names -/
def NMV (T : Int → Int → Int) : Prop := ∀ i, 24 ≤ i → i < 48 → 0 ≤ T 1073 i ∧ T 1073 i < 387420489
def zltr (T : Int → Int → Int) (a b k : Int) : Int := if (0 ≤ a ∧ a ≤ 2) ∧ (0 ≤ b ∧ b < T 1072 (3 + a)) ∧ (0 ≤ k ∧ k ≤ 5) then zlet (T 1073 (24 + 8 * a + b)) k else -1
def zsd (s : Int) : Int := (1103515245 * s + 12345) % 2147483648
section M12
variable {d : Nat} {h h0 : AH} {Q : QQ} {x y z m k s l w a b : Int} {T : Int → Int → Int} {nw g : Int → Int}
set_option maxHeartbeats 2000000
theorem ah_m_wr {r i z : Int} : ah_m (ah_w h r i z) r = fun j => if j = i then z else ah_m h r j := by funext j; rw [ah_m_w]; simp
theorem zmk_mem {q : Int × Int} : ∀ (j : Nat) (k : Int), q ∈ zmk T nw m j k → q.1 = m ∧ k ≤ q.2 ∧ q.2 < k + j ∧ zG T nw m q.2 = true := by
  intro j
  induction j with
  | zero => intro k hq; cases hq
  | succ j ih =>
    intro k hq
    unfold zmk at hq
    by_cases e : zG T nw m k = true
    · rw [if_pos e] at hq
      rcases List.mem_cons.1 hq with g | g
      · subst g; exact ⟨rfl, by simp, by simp; omega, e⟩
      · have := ih _ g; exact ⟨this.1, by omega, by omega, this.2.2.2⟩
    · rw [if_neg e] at hq
      have := ih _ hq; exact ⟨this.1, by omega, by omega, this.2.2.2⟩
theorem zmm_mem {q : Int × Int} : ∀ (j : Nat) (c : Int), q ∈ zmm T nw s j c → c ≤ q.1 ∧ q.1 < c + j ∧ zs T q.1 = s ∧ 0 ≤ q.2 ∧ q.2 < zP T ∧ zG T nw q.1 q.2 = true := by
  intro j
  induction j with
  | zero => intro k hq; cases hq
  | succ j ih =>
    intro c hq
    rw [zmm_s] at hq
    rcases List.mem_append.1 hq with g | g
    · by_cases e : zs T c = s
      · rw [if_pos e] at g
        have := zmk_mem _ _ g
        rw [this.1]
        refine ⟨by omega, by omega, e, by omega, by omega, this.2.2.2⟩
      · rw [if_neg e] at g; cases g
    · have := ih _ g
      exact ⟨by omega, by omega, this.2.2⟩
theorem zmv_mem {q : Int × Int} (hT : TV T) (hq : q ∈ zmv T nw) : 0 ≤ q.1 ∧ q.1 < T 1072 4 ∧ zs T q.1 = nw 1 ∧ 0 ≤ q.2 ∧ q.2 < zP T ∧ zG T nw q.1 q.2 = true := by
  have h8 := hT.2.1
  have := zmm_mem _ _ hq
  unfold zn at this
  exact ⟨by omega, by omega, this.2.2⟩
theorem zpk_mem {q : Int × Int} : ∀ (l : List (Int × Int)) (n w : Int), zpk l n w = some q → q ∈ l := by
  intro l
  induction l with
  | nil => intro n w e; cases e
  | cons x l ih =>
    intro n w e
    unfold zpk at e
    split at e
    · injection e with e; subst e; exact List.mem_cons_self
    · exact List.mem_cons_of_mem _ (ih _ _ e)
theorem c_307 (hG : MG T nw h) (hQ : ∀ h', MG T nw h' → Off Wc h h' → Q (.inl (some (.inl (zopt T nw k w)))) h') : wpC (d + 7) 307 [.inr (.inr 1036), .inl k, .inl w] h Q := by
  have b4 := hG.2.2.2.1.2.2.2.1; have b5 := hG.2.2.2.1.2.2.2.2.1; have h8 := hG.2.2.2.1.2.1
  have hs := hG.2.2.2.2.2.2.2
  unfold zopt at hQ
  rw [wpC_B]; refine ⟨⟨Nat.zero_lt_succ _, Nat.le_of_ble_eq_true rfl⟩, ?_⟩; simp only [lent]
  by_cases e0 : 0 ≤ w ∧ w ≤ 4
  · rw [if_pos e0] at hQ
    simp (disch := omega) only [q_307_0, b_307_0, q_307_14, b_307_14, ↓w_iconst, ↓w_lconst, ↓w_ldc2_w, ↓w_aload_n_0, ↓w_iload_n_1, ↓w_iload_n_2, ↓w_i2l, ↓w_getfield, ↓w_ifCond_ne, ↓w_if_icmp_ne, ↓w_ireturn0, ↓w_invokevirtual_1, ↓w_invokestatic_3, stw_0, stw_i, stw_l, stw_r, ofK0, ofK1, ofK2, lst1, lst2, lkill, kont_none, kont_some, Int.reduceToNat, List.length_cons, List.length_nil, Nat.reduceAdd, Nat.reduceLeDiff, Nat.zero_le, true_and, and_true, if_true, if_false, ne_eq, Int.reduceEq, Int.reduceNeg, not_false_eq_true, not_true_eq_false, ↓reduceIte, Int.reduceLT, Int.reduceLE, and_self, or_true, true_or, or_false, false_or, false_and, and_false, ah_t_w, ah_m_w, ah_n_w, lst1_0, List.tail_cons, w32_i, mt_1036a hG.1, c_246, e0]
    refine c_308 hG (fun h' hG' hO hch => ?_)
    have hO' : Off Wc h h' := Off_mono (fun r i w => by unfold Wh at w; unfold Wc; omega) hO
    unfold zch zpc at hch
    by_cases e1 : k < 0 ∨ zcr T nw = true
    · rw [if_pos e1] at hQ hch
      have e2 : ah_m h' 1036 68 = -1 := congrArg Prod.fst hch
      simp (disch := omega) only [b_307_14, ↓w_iconst, ↓w_aload_n_0, ↓w_iload_n_1, ↓w_getfield, ↓w_if_icmp_ne, ↓w_ireturn0, ↓w_invokevirtual_1, stw_0, stw_i, stw_l, stw_r, ofK0, ofK1, ofK2, lst1, lst2, lkill, kont_none, kont_some, Int.reduceToNat, List.length_cons, List.length_nil, Nat.reduceAdd, Nat.reduceLeDiff, Nat.zero_le, true_and, and_true, if_true, if_false, ne_eq, Int.reduceEq, Int.reduceNeg, not_false_eq_true, not_true_eq_false, ↓reduceIte, Int.reduceLT, Int.reduceLE, and_self, or_true, true_or, or_false, false_or, false_and, and_false, ah_t_w, ah_m_w, ah_n_w, lst1_0, List.tail_cons, w32_i, mt_1036a hG'.1, e2]
      exact hQ _ hG' hO'
    · rw [if_neg e1] at hQ hch
      have hb := fun q hq => @zmv_mem T nw q hG.2.2.2.1 (zpk_mem (zmv T nw) 0 k hq)
      cases e3 : zpk (zmv T nw) 0 k with
      | none =>
        rw [e3] at hQ hch
        have e2 : ah_m h' 1036 68 = -1 := congrArg Prod.fst hch
        simp (disch := omega) only [b_307_14, ↓w_iconst, ↓w_aload_n_0, ↓w_iload_n_1, ↓w_getfield, ↓w_if_icmp_ne, ↓w_ireturn0, ↓w_invokevirtual_1, stw_0, stw_i, stw_l, stw_r, ofK0, ofK1, ofK2, lst1, lst2, lkill, kont_none, kont_some, Int.reduceToNat, List.length_cons, List.length_nil, Nat.reduceAdd, Nat.reduceLeDiff, Nat.zero_le, true_and, and_true, if_true, if_false, ne_eq, Int.reduceEq, Int.reduceNeg, not_false_eq_true, not_true_eq_false, ↓reduceIte, Int.reduceLT, Int.reduceLE, and_self, or_true, true_or, or_false, false_or, false_and, and_false, ah_t_w, ah_m_w, ah_n_w, lst1_0, List.tail_cons, w32_i, mt_1036a hG'.1, e2]
        exact hQ _ hG' hO'
      | some q =>
        obtain ⟨m, p⟩ := q
        have hb := hb (m, p) e3
        rw [e3] at hQ hch
        simp only at hb hQ hch
        have e2 : ah_m h' 1036 68 = k := congrArg Prod.fst hch
        have e4 : ah_m h' 1036 69 = m := congrArg (fun q => q.2.1) hch
        have e5 : ah_m h' 1036 70 = p := congrArg (fun q => q.2.2) hch
        have e6 : ¬ k = -1 := by omega
        obtain ⟨hC, hx, hy, t1, t2⟩ := zkk hG hb.2.2.2.1 hb.2.2.2.2.1
        have hC' : ¬ T 1074 4 = 0 := by omega
        simp (disch := omega) only [b_307_14, q_307_29, b_307_29, ↓w_iconst, ↓w_aload_n_0, ↓w_iload_n_1, ↓w_iload_n_3, ↓w_iload_4, ↓w_istore, ↓w_istore_n_3, ↓w_idiv, ↓w_irem, ↓w_getfield, ↓w_iaload, ↓w_goto, ↓w_ifCond_eq, ↓w_if_icmp_ne, ↓w_ireturn0, ↓w_invokevirtual_1, ↓w_invokevirtual_2, ↓w_invokevirtual_3, stw_0, stw_i, stw_l, stw_r, ofK0, ofK1, ofK2, lst1, lst2, lkill, kont_none, kont_some, Int.reduceToNat, List.length_cons, List.length_nil, Nat.reduceAdd, Nat.reduceLeDiff, Nat.zero_le, true_and, and_true, if_true, if_false, ne_eq, Int.reduceEq, Int.reduceNeg, not_false_eq_true, not_true_eq_false, ↓reduceIte, Int.reduceLT, Int.reduceLE, and_self, or_true, true_or, or_false, false_or, false_and, and_false, ah_t_w, ah_m_w, ah_n_w, lst1_0, List.tail_cons, w32_i, mt_1036a hG'.1, mt_1074a hG'.1, mt_1074b hG'.1, mf_47 hG'.1, mt_1083a hG'.1, mt_1083b hG'.1, mf_62 hG'.1, g_1074 hG', g_1083 hG', c_296 hG', c_310 hG', e2, e4, e5, e6, hC', t1, t2, not_false_eq_true]
        refine c_309 hG' hb.1 (by omega) hb.2.2.2.1 hb.2.2.2.2.1 (by decide) (by decide) (fun h1' hD => ?_)
        have hG1 := MG_do hG' hb.1 hb.2.1 hb.2.2.2.1 hb.2.2.2.2.1 hD
        have hz := @zat_b h' (p % T 1074 4) (p / T 1074 4) T nw hG'
        have fin : wpB (d + 6) 307 94 [some (.inr (.inr 1036)), some (.inl k), some (.inl w), some (.inl (p % T 1074 4)), some (.inl (p / T 1074 4)), some (.inl (zat T nw (p % T 1074 4) (p / T 1074 4)))] [.inl (zb (zchk T (zdo T nw m p) (zdo T nw m p 1)))] h1' Q := by
          simp (disch := omega) only [q_307_94, b_307_94, ↓w_iconst, ↓w_aload_n_0, ↓w_iload_n_2, ↓w_istore, ↓w_tableswitch, ↓w_invokevirtual_1, stw_0, stw_i, stw_l, stw_r, ofK0, ofK1, ofK2, lst1, lst2, lkill, kont_none, kont_some, Int.reduceToNat, List.length_cons, List.length_nil, Nat.reduceAdd, Nat.reduceLeDiff, Nat.zero_le, true_and, and_true, if_true, if_false, ne_eq, Int.reduceEq, Int.reduceNeg, not_false_eq_true, not_true_eq_false, ↓reduceIte, Int.reduceLT, Int.reduceLE, and_self, or_true, true_or, or_false, false_or, false_and, and_false, ah_t_w, ah_m_w, ah_n_w, lst1_0, List.tail_cons, w32_i, asc, Option.getD_some, Option.getD_none, mt_1036a hG1.1]
          refine c_311 hG1.1 (by decide) (by decide) (by rw [hD.2.1]; omega) (by rw [hD.2.2.2.2.1]; omega) (by rw [g_1083 hG1]; have := hG1.2.2.2.2.2.2.2; omega) (fun h3 e3' hO3 => ?_)
          obtain ⟨e4', hO4⟩ := DO_back (Wb := Wv 0) hb.1 hD Off_rfl (fun i w => by unfold Wv at w; omega) (fun r w => by unfold Wv at w; omega) e3' hO3 (g_1083 hG')
          have hO5 : Off Wc h' h3 := Off_mono (fun r i w => by unfold Wv Wd at *; unfold Wc; omega) hO4
          have hG3 : MG T nw h3 := MG_off hG' hO5 (fun r i w => Wc_f w)
          have hq := hQ _ hG3 (Off_tr hO' hO5)
          have e69 : ah_m h3 1036 69 = m := by rw [hO4.2 _ _ (by unfold Wv Wd; omega)]; exact e4
          have : w = 0 ∨ w = 1 ∨ w = 2 ∨ w = 3 ∨ w = 4 := by omega
          rcases this with e | e | e | e | e <;> subst e
          · simp (disch := omega) only [b_307_94, q_307_132, b_307_132, ↓w_iconst, ↓w_aload_n_0, ↓w_iload_n_2, ↓w_istore, ↓w_getfield, ↓w_tableswitch, ↓w_ireturn0, ↓w_invokevirtual_1, stw_0, stw_i, stw_l, stw_r, ofK0, ofK1, ofK2, lst1, lst2, lkill, kont_none, kont_some, Int.reduceToNat, List.length_cons, List.length_nil, Nat.reduceAdd, Nat.reduceLeDiff, Nat.zero_le, true_and, and_true, if_true, if_false, ne_eq, Int.reduceEq, Int.reduceNeg, not_false_eq_true, not_true_eq_false, ↓reduceIte, Int.reduceLT, Int.reduceLE, and_self, or_true, true_or, or_false, false_or, false_and, and_false, ah_t_w, ah_m_w, ah_n_w, lst1_0, List.tail_cons, w32_i, asc, Option.getD_some, Option.getD_none, mt_1036a hG3.1, asc, Option.getD_some, Option.getD_none, e69]
            exact hq
          · simp (disch := omega) only [b_307_94, q_307_137, b_307_137, ↓w_iconst, ↓w_aload_n_0, ↓w_iload_n_2, ↓w_iload_n_3, ↓w_istore, ↓w_tableswitch, ↓w_ireturn0, ↓w_invokevirtual_1, stw_0, stw_i, stw_l, stw_r, ofK0, ofK1, ofK2, lst1, lst2, lkill, kont_none, kont_some, Int.reduceToNat, List.length_cons, List.length_nil, Nat.reduceAdd, Nat.reduceLeDiff, Nat.zero_le, true_and, and_true, if_true, if_false, ne_eq, Int.reduceEq, Int.reduceNeg, not_false_eq_true, not_true_eq_false, ↓reduceIte, Int.reduceLT, Int.reduceLE, and_self, or_true, true_or, or_false, false_or, false_and, and_false, ah_t_w, ah_m_w, ah_n_w, lst1_0, List.tail_cons, w32_i, asc, Option.getD_some, Option.getD_none, mt_1036a hG3.1, asc, Option.getD_some, Option.getD_none]
            exact hq
          · simp (disch := omega) only [b_307_94, q_307_139, b_307_139, ↓w_iconst, ↓w_aload_n_0, ↓w_iload_n_2, ↓w_iload_4, ↓w_istore, ↓w_tableswitch, ↓w_ireturn0, ↓w_invokevirtual_1, stw_0, stw_i, stw_l, stw_r, ofK0, ofK1, ofK2, lst1, lst2, lkill, kont_none, kont_some, Int.reduceToNat, List.length_cons, List.length_nil, Nat.reduceAdd, Nat.reduceLeDiff, Nat.zero_le, true_and, and_true, if_true, if_false, ne_eq, Int.reduceEq, Int.reduceNeg, not_false_eq_true, not_true_eq_false, ↓reduceIte, Int.reduceLT, Int.reduceLE, and_self, or_true, true_or, or_false, false_or, false_and, and_false, ah_t_w, ah_m_w, ah_n_w, lst1_0, List.tail_cons, w32_i, asc, Option.getD_some, Option.getD_none, mt_1036a hG3.1, asc, Option.getD_some, Option.getD_none]
            exact hq
          · by_cases e7 : zat T nw (p % T 1074 4) (p / T 1074 4) = -1
            · simp (disch := omega) only [b_307_94, q_307_142, b_307_142, q_307_154, b_307_154, q_307_156, b_307_156, ↓w_iconst, ↓w_sipush, ↓w_aload_n_0, ↓w_iload_n_2, ↓w_iload_5, ↓w_istore, ↓w_nop, ↓w_goto, ↓w_if_icmp_ne, ↓w_tableswitch, ↓w_ireturn0, ↓w_invokevirtual_1, stw_0, stw_i, stw_l, stw_r, ofK0, ofK1, ofK2, lst1, lst2, lkill, kont_none, kont_some, Int.reduceToNat, List.length_cons, List.length_nil, Nat.reduceAdd, Nat.reduceLeDiff, Nat.zero_le, true_and, and_true, if_true, if_false, ne_eq, Int.reduceEq, Int.reduceNeg, not_false_eq_true, not_true_eq_false, ↓reduceIte, Int.reduceLT, Int.reduceLE, and_self, or_true, true_or, or_false, false_or, false_and, and_false, ah_t_w, ah_m_w, ah_n_w, lst1_0, List.tail_cons, w32_i, asc, Option.getD_some, Option.getD_none, mt_1036a hG3.1, asc, Option.getD_some, Option.getD_none, e7]
              simpa [e7] using hq
            · simp (disch := omega) only [b_307_94, q_307_142, b_307_142, q_307_154, b_307_154, q_307_156, b_307_156, ↓w_iconst, ↓w_sipush, ↓w_aload_n_0, ↓w_iload_n_2, ↓w_iload_5, ↓w_istore, ↓w_nop, ↓w_goto, ↓w_if_icmp_ne, ↓w_tableswitch, ↓w_ireturn0, ↓w_invokevirtual_1, stw_0, stw_i, stw_l, stw_r, ofK0, ofK1, ofK2, lst1, lst2, lkill, kont_none, kont_some, Int.reduceToNat, List.length_cons, List.length_nil, Nat.reduceAdd, Nat.reduceLeDiff, Nat.zero_le, true_and, and_true, if_true, if_false, ne_eq, Int.reduceEq, Int.reduceNeg, not_false_eq_true, not_true_eq_false, ↓reduceIte, Int.reduceLT, Int.reduceLE, and_self, or_true, true_or, or_false, false_or, false_and, and_false, ah_t_w, ah_m_w, ah_n_w, lst1_0, List.tail_cons, w32_i, asc, Option.getD_some, Option.getD_none, mt_1036a hG3.1, asc, Option.getD_some, Option.getD_none, e7]
              simpa [e7] using hq
          · simp (disch := omega) only [b_307_94, q_307_157, b_307_157, ↓w_iconst, ↓w_aload_n_0, ↓w_iload_n_2, ↓w_iload_6, ↓w_istore, ↓w_tableswitch, ↓w_ireturn0, ↓w_invokevirtual_1, stw_0, stw_i, stw_l, stw_r, ofK0, ofK1, ofK2, lst1, lst2, lkill, kont_none, kont_some, Int.reduceToNat, List.length_cons, List.length_nil, Nat.reduceAdd, Nat.reduceLeDiff, Nat.zero_le, true_and, and_true, if_true, if_false, ne_eq, Int.reduceEq, Int.reduceNeg, not_false_eq_true, not_true_eq_false, ↓reduceIte, Int.reduceLT, Int.reduceLE, and_self, or_true, true_or, or_false, false_or, false_and, and_false, ah_t_w, ah_m_w, ah_n_w, lst1_0, List.tail_cons, w32_i, asc, Option.getD_some, Option.getD_none, mt_1036a hG3.1, asc, Option.getD_some, Option.getD_none]
            exact hq
        cases e8 : zchk T (zdo T nw m p) (zdo T nw m p 1)
        · rw [e8] at fin
          simp (disch := omega) only [b_307_29, q_307_93, b_307_93, ↓w_iconst, ↓w_aload_n_0, ↓w_iload_n_3, ↓w_iload_4, ↓w_istore, ↓w_istore_n_3, ↓w_idiv, ↓w_irem, ↓w_getfield, ↓w_iaload, ↓w_nop, ↓w_goto, ↓w_ifCond_eq, ↓w_invokevirtual_1, ↓w_invokevirtual_2, ↓w_invokevirtual_3, stw_0, stw_i, stw_l, stw_r, ofK0, ofK1, ofK2, lst1, lst2, lkill, kont_none, kont_some, Int.reduceToNat, List.length_cons, List.length_nil, Nat.reduceAdd, Nat.reduceLeDiff, Nat.zero_le, true_and, and_true, if_true, if_false, ne_eq, Int.reduceEq, Int.reduceNeg, not_false_eq_true, not_true_eq_false, ↓reduceIte, Int.reduceLT, Int.reduceLE, and_self, or_true, true_or, or_false, false_or, false_and, and_false, ah_t_w, ah_m_w, ah_n_w, lst1_0, List.tail_cons, w32_i, mt_1036a hG1.1, mt_1074a hG1.1, mt_1074b hG1.1, mf_47 hG1.1, mt_1083a hG1.1, mt_1083b hG1.1, mf_62 hG1.1, g_1074 hG1, g_1083 hG1, c_296 hG1, c_310 hG1, e8, zb_f]
          exact fin
        · rw [e8] at fin
          simp (disch := omega) only [b_307_29, q_307_93, b_307_93, ↓w_iconst, ↓w_aload_n_0, ↓w_iload_n_3, ↓w_iload_4, ↓w_istore, ↓w_istore_n_3, ↓w_idiv, ↓w_irem, ↓w_getfield, ↓w_iaload, ↓w_nop, ↓w_goto, ↓w_ifCond_eq, ↓w_invokevirtual_1, ↓w_invokevirtual_2, ↓w_invokevirtual_3, stw_0, stw_i, stw_l, stw_r, ofK0, ofK1, ofK2, lst1, lst2, lkill, kont_none, kont_some, Int.reduceToNat, List.length_cons, List.length_nil, Nat.reduceAdd, Nat.reduceLeDiff, Nat.zero_le, true_and, and_true, if_true, if_false, ne_eq, Int.reduceEq, Int.reduceNeg, not_false_eq_true, not_true_eq_false, ↓reduceIte, Int.reduceLT, Int.reduceLE, and_self, or_true, true_or, or_false, false_or, false_and, and_false, ah_t_w, ah_m_w, ah_n_w, lst1_0, List.tail_cons, w32_i, mt_1036a hG1.1, mt_1074a hG1.1, mt_1074b hG1.1, mf_47 hG1.1, mt_1083a hG1.1, mt_1083b hG1.1, mf_62 hG1.1, g_1074 hG1, g_1083 hG1, c_296 hG1, c_310 hG1, e8, zb_t]
          exact fin
  · rw [if_neg e0] at hQ
    simp (disch := omega) only [q_307_0, b_307_0, ↓w_iconst, ↓w_lconst, ↓w_ldc2_w, ↓w_iload_n_2, ↓w_i2l, ↓w_ifCond_ne, ↓w_ireturn0, ↓w_invokestatic_3, stw_0, stw_i, stw_l, stw_r, ofK0, ofK1, ofK2, lst1, lst2, lkill, kont_none, kont_some, Int.reduceToNat, List.length_cons, List.length_nil, Nat.reduceAdd, Nat.reduceLeDiff, Nat.zero_le, true_and, and_true, if_true, if_false, ne_eq, Int.reduceEq, Int.reduceNeg, not_false_eq_true, not_true_eq_false, ↓reduceIte, Int.reduceLT, Int.reduceLE, and_self, or_true, true_or, or_false, false_or, false_and, and_false, ah_t_w, ah_m_w, ah_n_w, lst1_0, List.tail_cons, w32_i, mt_1036a hG.1, c_246, e0]
    exact hQ _ hG Off_rfl
/-! letters -/
theorem lcmp_gt : (0 < lcmp_ z 0) = (0 < z) := by
  unfold lcmp_; split
  · simp; omega
  · split <;> (simp; omega)
theorem zcnt_b : ∀ (j : Nat) (z : Int), 0 ≤ zcnt j z ∧ zcnt j z ≤ j := by
  intro j
  induction j with
  | zero => intro z; simp [zcnt]
  | succ j ih =>
    intro z; unfold zcnt; have := ih (z / 27); split <;> omega
theorem l_300a {p : ALoc} {v : Int} (hp : p = [some (.inr (.inr 1036)), some (.inl a), some (.inl b), some (.inl k), some (.inr (.inl v)), none]) : ∀ (j : Nat) (n z : Int), 0 ≤ n → n + j ≤ 6 → 0 ≤ z → z < 27 ^ j → z < 387420489 → (∀ z', wpB d 300 90 (p ++ [some (.inl (n + zcnt j z)), some (.inr (.inl z')), none]) [] h Q) → wpB d 300 69 (p ++ [some (.inl n), some (.inr (.inl z)), none]) [] h Q := by
  intro j
  induction j with
  | zero =>
    intro n z n0 n1 z0 z1 z2 hQ
    have e : z = 0 := by simp at z1; omega
    subst e; subst hp
    simp only [List.cons_append, List.nil_append] at hQ ⊢
    rw [q_300_69]
    simp (disch := omega) only [b_300_69, ↓w_lconst, ↓w_ldc2_w, ↓w_iinc_6, ↓w_lload_7, ↓w_lstore, ↓w_lcmp, ↓w_ldiv, ↓w_goto, ↓w_ifCond_le, stw_0, stw_i, stw_l, stw_r, ofK0, ofK1, ofK2, lst1, lst2, lkill, kont_none, kont_some, Int.reduceToNat, List.length_cons, List.length_nil, Nat.reduceAdd, Nat.reduceLeDiff, Nat.zero_le, true_and, and_true, if_true, if_false, ne_eq, Int.reduceEq, Int.reduceNeg, not_false_eq_true, not_true_eq_false, ↓reduceIte, Int.reduceLT, Int.reduceLE, and_self, or_true, true_or, or_false, false_or, false_and, and_false, ah_t_w, ah_m_w, ah_n_w, lcmp_gt]
    simpa [zcnt] using hQ 0
  | succ j ih =>
    intro n z n0 n1 z0 z1 z2 hQ
    have hz : z / 27 < 27 ^ j := by
      apply Int.ediv_lt_of_lt_mul (by decide)
      rw [Int.pow_succ] at z1; exact z1
    have hz0 : 0 ≤ z / 27 := Int.ediv_nonneg z0 (by decide)
    have hz1 : z.tdiv 27 = z / 27 := Int.tdiv_eq_ediv_of_nonneg z0
    have hz2 : z / 27 ≤ z := by omega
    have e6 : w64 (z / 27) = z / 27 := w64_i (by omega) (by omega)
    by_cases e : 0 < z
    rotate_left
    · have e1 : z = 0 := by omega
      subst e1; subst hp
      simp only [List.cons_append, List.nil_append] at hQ ⊢
      rw [q_300_69]
      simp (disch := omega) only [b_300_69, ↓w_lconst, ↓w_ldc2_w, ↓w_iinc_6, ↓w_lload_7, ↓w_lstore, ↓w_lcmp, ↓w_ldiv, ↓w_goto, ↓w_ifCond_le, stw_0, stw_i, stw_l, stw_r, ofK0, ofK1, ofK2, lst1, lst2, lkill, kont_none, kont_some, Int.reduceToNat, List.length_cons, List.length_nil, Nat.reduceAdd, Nat.reduceLeDiff, Nat.zero_le, true_and, and_true, if_true, if_false, ne_eq, Int.reduceEq, Int.reduceNeg, not_false_eq_true, not_true_eq_false, ↓reduceIte, Int.reduceLT, Int.reduceLE, and_self, or_true, true_or, or_false, false_or, false_and, and_false, ah_t_w, ah_m_w, ah_n_w, lcmp_gt]
      simpa [zcnt] using hQ 0
    · have ih := ih (n + 1) (z / 27) (by omega) (by omega) hz0 hz (by omega)
      subst hp
      simp only [List.cons_append, List.nil_append] at hQ ih ⊢
      rw [q_300_69]
      simp (disch := omega) only [b_300_69, ↓w_lconst, ↓w_ldc2_w, ↓w_iinc_6, ↓w_lload_7, ↓w_lstore, ↓w_lcmp, ↓w_ldiv, ↓w_goto, ↓w_ifCond_le, stw_0, stw_i, stw_l, stw_r, ofK0, ofK1, ofK2, lst1, lst2, lkill, kont_none, kont_some, Int.reduceToNat, List.length_cons, List.length_nil, Nat.reduceAdd, Nat.reduceLeDiff, Nat.zero_le, true_and, and_true, if_true, if_false, ne_eq, Int.reduceEq, Int.reduceNeg, not_false_eq_true, not_true_eq_false, ↓reduceIte, Int.reduceLT, Int.reduceLE, and_self, or_true, true_or, or_false, false_or, false_and, and_false, ah_t_w, ah_m_w, ah_n_w, lcmp_gt, e, hz1, e6, w32_i]
      refine ih (fun z' => ?_)
      have := hQ z'
      simp only [zcnt, e, if_true] at this
      rwa [← Int.add_assoc] at this
theorem l_300b {p : ALoc} (hp : p = [some (.inr (.inr 1036)), some (.inl a), some (.inl b), some (.inl k)]) {n6 : Int} : ∀ (j : Nat) (q v : Int) tl, q = k + j → 0 ≤ k → k ≤ 5 → j ≤ 6 → 0 ≤ v → v < 387420489 → Q (.inl (some (.inl (zdv j v % 27)))) h → wpB d 300 104 (p ++ some (.inr (.inl v)) :: none :: some (.inl n6) :: some (.inl q) :: tl) [] h Q := by
  intro j
  induction j with
  | zero =>
    intro q v tl e k0 k1 j6 v0 v1 hQ
    have e1 : ¬ k < q := by omega
    have e2 : v.tmod 27 = v % 27 := Int.tmod_eq_emod_of_nonneg v0
    have e3 : w32 (v % 27) = v % 27 := w32_i (by omega) (by omega)
    subst hp
    simp only [List.cons_append, List.nil_append]
    rw [q_300_104]
    simp (disch := omega) only [b_300_104, q_300_124, b_300_124, ↓w_ldc2_w, ↓w_iload_n_3, ↓w_lload_4, ↓w_iload_7, ↓w_iinc_7, ↓w_lstore, ↓w_ldiv, ↓w_lrem, ↓w_l2i, ↓w_goto, ↓w_if_icmp_le, ↓w_ireturn0, stw_0, stw_i, stw_l, stw_r, ofK0, ofK1, ofK2, lst1, lst2, lkill, kont_none, kont_some, Int.reduceToNat, List.length_cons, List.length_nil, Nat.reduceAdd, Nat.reduceLeDiff, Nat.zero_le, true_and, and_true, if_true, if_false, ne_eq, Int.reduceEq, Int.reduceNeg, not_false_eq_true, not_true_eq_false, ↓reduceIte, Int.reduceLT, Int.reduceLE, and_self, or_true, true_or, or_false, false_or, false_and, and_false, ah_t_w, ah_m_w, ah_n_w, e1, e2, e3]
    exact hQ
  | succ j ih =>
    intro q v tl e k0 k1 j6 v0 v1 hQ
    have e1 : k < q := by omega
    have e2 : v.tdiv 27 = v / 27 := Int.tdiv_eq_ediv_of_nonneg v0
    have e6 : w64 (v / 27) = v / 27 := w64_i (by omega) (by omega)
    have ih := ih (q + -1) (v / 27) tl (by omega) k0 k1 (by omega) (by omega) (by omega) hQ
    subst hp
    simp only [List.cons_append, List.nil_append] at ih ⊢
    rw [q_300_104]
    simp (disch := omega) only [b_300_104, ↓w_ldc2_w, ↓w_iload_n_3, ↓w_lload_4, ↓w_iload_7, ↓w_iinc_7, ↓w_lstore, ↓w_ldiv, ↓w_goto, ↓w_if_icmp_le, stw_0, stw_i, stw_l, stw_r, ofK0, ofK1, ofK2, lst1, lst2, lkill, kont_none, kont_some, Int.reduceToNat, List.length_cons, List.length_nil, Nat.reduceAdd, Nat.reduceLeDiff, Nat.zero_le, true_and, and_true, if_true, if_false, ne_eq, Int.reduceEq, Int.reduceNeg, not_false_eq_true, not_true_eq_false, ↓reduceIte, Int.reduceLT, Int.reduceLE, and_self, or_true, true_or, or_false, false_or, false_and, and_false, ah_t_w, ah_m_w, ah_n_w, e1, e2, e6, w32_i]
    exact ih
theorem c_300 (hG : MG T nw h) (hN : NMV T) : wpC (d + 2) 300 [.inr (.inr 1036), .inl a, .inl b, .inl k] h Q ↔ Q (.inl (some (.inl (zltr T a b k)))) h := by
  have hT := hG.2.2.2.1
  have h3 := hT.1; have h4 := hT.2.1; have h5 := hT.2.2.1
  unfold zltr
  apply CT_iff; apply CT_of; rw [wpC_B]; refine ⟨⟨Nat.zero_lt_succ _, Nat.le_of_ble_eq_true rfl⟩, ?_⟩; simp only [lent]
  by_cases e1 : 0 ≤ a ∧ a ≤ 2
  · have hm : 0 ≤ T 1072 (3 + a) ∧ T 1072 (3 + a) ≤ 8 := by
      have : a = 0 ∨ a = 1 ∨ a = 2 := by omega
      rcases this with g | g | g <;> subst g <;> simp <;> omega
    by_cases e2 : 0 ≤ b ∧ b < T 1072 (3 + a)
    · have e2' : 0 ≤ b ∧ b ≤ T 1072 (3 + a) - 1 := by omega
      by_cases e3 : 0 ≤ k ∧ k ≤ 5
      · have hv := hN (24 + 8 * a + b) (by omega) (by omega)
        have hb := zcnt_b 6 (T 1073 (24 + 8 * a + b))
        have e4 : (0 ≤ 3 + a ∧ 3 + a < 6) = True := by simp; omega
        have e5 : (0 ≤ 24 + 8 * a + b ∧ 24 + 8 * a + b < 48) = True := by simp; omega
        rw [if_pos ⟨e1, e2, e3⟩]
        simp (disch := omega) only [q_300_0, b_300_0, q_300_46, b_300_46, ↓w_iconst, ↓w_bipush, ↓w_lconst, ↓w_ldc2_w, ↓w_aload_n_0, ↓w_iload_n_1, ↓w_iload_n_2, ↓w_iload_n_3, ↓w_lload_4, ↓w_istore, ↓w_lstore, ↓w_iadd, ↓w_isub, ↓w_imul, ↓w_i2l, ↓w_getfield, ↓w_iaload, ↓w_laload, ↓w_nop, ↓w_ifCond_eq, ↓w_ifCond_ne, ↓w_invokestatic_3, stw_0, stw_i, stw_l, stw_r, ofK0, ofK1, ofK2, lst1, lst2, lkill, kont_none, kont_some, Int.reduceToNat, List.length_cons, List.length_nil, Nat.reduceAdd, Nat.reduceLeDiff, Nat.zero_le, true_and, and_true, if_true, if_false, ne_eq, Int.reduceEq, Int.reduceNeg, not_false_eq_true, not_true_eq_false, ↓reduceIte, Int.reduceLT, Int.reduceLE, and_self, or_true, true_or, or_false, false_or, false_and, and_false, ah_t_w, ah_m_w, ah_n_w, lst1_0, List.tail_cons, w32_i, mt_1036a hG.1, mt_1072a hG.1, mt_1072b hG.1, mf_45 hG.1, mt_1073a hG.1, mt_1073b hG.1, mf_46 hG.1, g_1072 hG, g_1073 hG, c_246, e1, e2', e3, e4, e5]
        refine l_300a rfl 6 0 _ (by omega) (by omega) hv.1 (by exact hv.2) hv.2 (fun z' => ?_)
        rw [Int.zero_add]
        unfold zlet
        simp only [List.cons_append, List.nil_append]
        by_cases e6 : k < zcnt 6 (T 1073 (24 + 8 * a + b))
        · rw [if_pos e6]
          simp (disch := omega) only [q_300_90, b_300_90, q_300_98, b_300_98, ↓w_iconst, ↓w_iload_n_3, ↓w_iload_6, ↓w_istore, ↓w_isub, ↓w_nop, ↓w_if_icmp_lt, ↓w_ireturn0, stw_0, stw_i, stw_l, stw_r, ofK0, ofK1, ofK2, lst1, lst2, lkill, kont_none, kont_some, Int.reduceToNat, List.length_cons, List.length_nil, Nat.reduceAdd, Nat.reduceLeDiff, Nat.zero_le, true_and, and_true, if_true, if_false, ne_eq, Int.reduceEq, Int.reduceNeg, not_false_eq_true, not_true_eq_false, ↓reduceIte, Int.reduceLT, Int.reduceLE, and_self, or_true, true_or, or_false, false_or, false_and, and_false, ah_t_w, ah_m_w, ah_n_w, lst1_0, List.tail_cons, w32_i, mt_1036a hG.1, e6]
          refine l_300b rfl (zcnt 6 (T 1073 (24 + 8 * a + b)) - 1 - k).toNat _ _ _ (by omega) (by omega) (by omega) (by omega) hv.1 hv.2 ⟨rfl, rfl⟩
        · rw [if_neg e6]
          simp (disch := omega) only [q_300_90, b_300_90, ↓w_iconst, ↓w_iload_n_3, ↓w_iload_6, ↓w_if_icmp_lt, ↓w_ireturn0, stw_0, stw_i, stw_l, stw_r, ofK0, ofK1, ofK2, lst1, lst2, lkill, kont_none, kont_some, Int.reduceToNat, List.length_cons, List.length_nil, Nat.reduceAdd, Nat.reduceLeDiff, Nat.zero_le, true_and, and_true, if_true, if_false, ne_eq, Int.reduceEq, Int.reduceNeg, not_false_eq_true, not_true_eq_false, ↓reduceIte, Int.reduceLT, Int.reduceLE, and_self, or_true, true_or, or_false, false_or, false_and, and_false, ah_t_w, ah_m_w, ah_n_w, lst1_0, List.tail_cons, w32_i, mt_1036a hG.1, e6]
      · rw [if_neg (fun q => e3 q.2.2)]
        have e4 : (0 ≤ 3 + a ∧ 3 + a < 6) = True := by simp; omega
        simp (disch := omega) only [q_300_0, b_300_0, q_300_44, b_300_44, ↓w_iconst, ↓w_lconst, ↓w_ldc2_w, ↓w_aload_n_0, ↓w_iload_n_1, ↓w_iload_n_2, ↓w_iload_n_3, ↓w_iadd, ↓w_isub, ↓w_i2l, ↓w_getfield, ↓w_iaload, ↓w_nop, ↓w_ifCond_eq, ↓w_ifCond_ne, ↓w_ireturn0, ↓w_invokestatic_3, stw_0, stw_i, stw_l, stw_r, ofK0, ofK1, ofK2, lst1, lst2, lkill, kont_none, kont_some, Int.reduceToNat, List.length_cons, List.length_nil, Nat.reduceAdd, Nat.reduceLeDiff, Nat.zero_le, true_and, and_true, if_true, if_false, ne_eq, Int.reduceEq, Int.reduceNeg, not_false_eq_true, not_true_eq_false, ↓reduceIte, Int.reduceLT, Int.reduceLE, and_self, or_true, true_or, or_false, false_or, false_and, and_false, ah_t_w, ah_m_w, ah_n_w, lst1_0, List.tail_cons, w32_i, mt_1036a hG.1, mt_1072a hG.1, mt_1072b hG.1, mf_45 hG.1, g_1072 hG, c_246, e1, e2', e3, e4]
    · rw [if_neg (fun q => e2 q.2.1)]
      have e2' : ¬ (0 ≤ b ∧ b ≤ T 1072 (3 + a) - 1) := by omega
      have e4 : (0 ≤ 3 + a ∧ 3 + a < 6) = True := by simp; omega
      simp (disch := omega) only [q_300_0, b_300_0, q_300_44, b_300_44, ↓w_iconst, ↓w_lconst, ↓w_ldc2_w, ↓w_aload_n_0, ↓w_iload_n_1, ↓w_iload_n_2, ↓w_iload_n_3, ↓w_iadd, ↓w_isub, ↓w_i2l, ↓w_getfield, ↓w_iaload, ↓w_nop, ↓w_ifCond_eq, ↓w_ifCond_ne, ↓w_ireturn0, ↓w_invokestatic_3, stw_0, stw_i, stw_l, stw_r, ofK0, ofK1, ofK2, lst1, lst2, lkill, kont_none, kont_some, Int.reduceToNat, List.length_cons, List.length_nil, Nat.reduceAdd, Nat.reduceLeDiff, Nat.zero_le, true_and, and_true, if_true, if_false, ne_eq, Int.reduceEq, Int.reduceNeg, not_false_eq_true, not_true_eq_false, ↓reduceIte, Int.reduceLT, Int.reduceLE, and_self, or_true, true_or, or_false, false_or, false_and, and_false, ah_t_w, ah_m_w, ah_n_w, lst1_0, List.tail_cons, w32_i, mt_1036a hG.1, mt_1072a hG.1, mt_1072b hG.1, mf_45 hG.1, g_1072 hG, c_246, e1, e2', e4]
  · rw [if_neg (fun q => e1 q.1)]
    simp (disch := omega) only [q_300_0, b_300_0, q_300_44, b_300_44, ↓w_iconst, ↓w_lconst, ↓w_ldc2_w, ↓w_aload_n_0, ↓w_iload_n_1, ↓w_iload_n_2, ↓w_iload_n_3, ↓w_iadd, ↓w_isub, ↓w_i2l, ↓w_getfield, ↓w_iaload, ↓w_nop, ↓w_ifCond_eq, ↓w_ifCond_ne, ↓w_ireturn0, ↓w_invokestatic_3, stw_0, stw_i, stw_l, stw_r, ofK0, ofK1, ofK2, lst1, lst2, lkill, kont_none, kont_some, Int.reduceToNat, List.length_cons, List.length_nil, Nat.reduceAdd, Nat.reduceLeDiff, Nat.zero_le, true_and, and_true, if_true, if_false, ne_eq, Int.reduceEq, Int.reduceNeg, not_false_eq_true, not_true_eq_false, ↓reduceIte, Int.reduceLT, Int.reduceLE, and_self, or_true, true_or, or_false, false_or, false_and, and_false, ah_t_w, ah_m_w, ah_n_w, lst1_0, List.tail_cons, w32_i, mt_1036a hG.1, mt_1072a hG.1, mt_1072b hG.1, mf_45 hG.1, g_1072 hG, c_246, e1]
/-! seeds -/
theorem c_364 (hM : MI h) : wpC (d + 1) 364 [.inr (.inr 1036), .inl w] h Q ↔ if w < 0 then Q (.inl (some (.inl 0))) (ah_w h 1038 5 (w32 (ah_m h 1038 5 + 1))) else Q (.inl (some (.inl 1))) (ah_w h 1036 86 w) := by
  by_cases e : w < 0
  · rw [if_pos e]
    apply CT_iff; apply CT_of; rw [wpC_B]; refine ⟨⟨Nat.zero_lt_succ _, Nat.le_of_ble_eq_true rfl⟩, ?_⟩; simp only [lent]
    simp (disch := omega) only [q_364_0, b_364_0, q_364_16, b_364_16, ↓w_iconst, ↓w_aload_n_0, ↓w_iload_n_1, ↓w_dup2, ↓w_iadd, ↓w_i2l, ↓w_getfield, ↓w_putfield_1, ↓w_iaload, ↓w_iastore, ↓w_ifCond_ge, ↓w_ireturn1, stw_0, stw_i, stw_l, stw_r, ofK0, ofK1, ofK2, lst1, lst2, lkill, kont_none, kont_some, Int.reduceToNat, List.length_cons, List.length_nil, Nat.reduceAdd, Nat.reduceLeDiff, Nat.zero_le, true_and, and_true, if_true, if_false, ne_eq, Int.reduceEq, Int.reduceNeg, not_false_eq_true, not_true_eq_false, ↓reduceIte, Int.reduceLT, Int.reduceLE, and_self, or_true, true_or, or_false, false_or, false_and, and_false, ah_t_w, ah_m_w, ah_n_w, lst1_0, List.tail_cons, w32_i, mt_1036a hM, mt_1038a hM, mt_1038b hM, mf_9 hM, e]
  · rw [if_neg e]
    apply CT_iff; apply CT_of; rw [wpC_B]; refine ⟨⟨Nat.zero_lt_succ _, Nat.le_of_ble_eq_true rfl⟩, ?_⟩; simp only [lent]
    simp (disch := omega) only [q_364_0, b_364_0, q_364_16, b_364_16, ↓w_iconst, ↓w_aload_n_0, ↓w_iload_n_1, ↓w_dup2, ↓w_iadd, ↓w_i2l, ↓w_getfield, ↓w_putfield_1, ↓w_iaload, ↓w_iastore, ↓w_ifCond_ge, ↓w_ireturn1, stw_0, stw_i, stw_l, stw_r, ofK0, ofK1, ofK2, lst1, lst2, lkill, kont_none, kont_some, Int.reduceToNat, List.length_cons, List.length_nil, Nat.reduceAdd, Nat.reduceLeDiff, Nat.zero_le, true_and, and_true, if_true, if_false, ne_eq, Int.reduceEq, Int.reduceNeg, not_false_eq_true, not_true_eq_false, ↓reduceIte, Int.reduceLT, Int.reduceLE, and_self, or_true, true_or, or_false, false_or, false_and, and_false, ah_t_w, ah_m_w, ah_n_w, lst1_0, List.tail_cons, w32_i, mt_1036a hM, mt_1038a hM, mt_1038b hM, mf_9 hM, e]
theorem c_366 (hM : MI h) (hs : 0 ≤ ah_m h 1036 86 ∧ ah_m h 1036 86 < 2147483648) (hm : 0 < m ∧ m ≤ 200) : wpC (d + 1) 366 [.inr (.inr 1036), .inl m] h Q ↔ Q (.inl (some (.inl (zsd (ah_m h 1036 86) / 64 % m)))) (ah_w h 1036 86 (zsd (ah_m h 1036 86))) := by
  generalize e : ah_m h 1036 86 = s at *
  have e1 : w64 (1103515245 * s) = 1103515245 * s := w64_i (by omega) (by omega)
  have e2 : w64 (1103515245 * s + 12345) = 1103515245 * s + 12345 := w64_i (by omega) (by omega)
  have e3 : (1103515245 * s + 12345).tmod 2147483648 = zsd s := Int.tmod_eq_emod_of_nonneg (by omega)
  have b3 : 0 ≤ zsd s ∧ zsd s < 2147483648 := by unfold zsd; omega
  have e4 : (zsd s).tdiv 64 = zsd s / 64 := Int.tdiv_eq_ediv_of_nonneg b3.1
  have e5 : w64 (zsd s / 64) = zsd s / 64 := w64_i (by omega) (by omega)
  have e6 : (zsd s / 64).tmod m = zsd s / 64 % m := Int.tmod_eq_emod_of_nonneg (by omega)
  have e7 : 0 ≤ zsd s / 64 % m := Int.emod_nonneg _ (by omega)
  have e8 : zsd s / 64 % m < m := Int.emod_lt_of_pos _ hm.1
  have e9 : ¬ m = 0 := by omega
  apply CT_iff; apply CT_of; rw [wpC_B]; refine ⟨⟨Nat.zero_lt_succ _, Nat.le_of_ble_eq_true rfl⟩, ?_⟩; simp only [lent]
  simp (disch := omega) only [q_366_0, b_366_0, ↓w_ldc2_w, ↓w_aload_n_0, ↓w_iload_n_1, ↓w_ladd, ↓w_lmul, ↓w_ldiv, ↓w_lrem, ↓w_i2l, ↓w_l2i, ↓w_getfield, ↓w_putfield_1, ↓w_ireturn0, stw_0, stw_i, stw_l, stw_r, ofK0, ofK1, ofK2, lst1, lst2, lkill, kont_none, kont_some, Int.reduceToNat, List.length_cons, List.length_nil, Nat.reduceAdd, Nat.reduceLeDiff, Nat.zero_le, true_and, and_true, if_true, if_false, ne_eq, Int.reduceEq, Int.reduceNeg, not_false_eq_true, not_true_eq_false, ↓reduceIte, Int.reduceLT, Int.reduceLE, and_self, or_true, true_or, or_false, false_or, false_and, and_false, ah_t_w, ah_m_w, ah_n_w, lst1_0, List.tail_cons, w32_i, mt_1036a hM, e, e1, e2, e3, e4, e5, e6, e9]
/-! what is put aside -/
theorem Off_row {W : Int → Int → Prop} {r i : Int} {h' : AH} (a : Off W h h') (hW : ¬ W r i) : ah_m h' r i = ah_m h r i := a.2 r i hW
theorem l_329 (hM : MI h) (hQ : ∀ h', Off (fun r i => r = 1084) h h' → (∀ i, 0 ≤ i → i < 24 → ah_m h' 1084 i = ah_m h 1083 i) → Q (.inl none) h') : ∀ (j : Nat) (k : Int) h', 0 ≤ k → k + j = 24 → Off (fun r i => r = 1084) h h' → (∀ i, 0 ≤ i → i < k → ah_m h' 1084 i = ah_m h 1083 i) → wpB d 329 7 [some (.inr (.inr 1036)), some (.inl k)] [] h' Q := by
  intro j
  induction j with
  | zero =>
    intro k h' h0 h1 hO hi
    have hM' : MI h' := MI_off hM hO (fun r i w => by unfold fre; omega)
    have hlt : ¬ k < 24 := by omega
    simp (disch := omega) only [q_329_7, b_329_7, q_329_31, b_329_31, ↓w_bipush, ↓w_aload_n_0, ↓w_iload_n_1, ↓w_iinc_1, ↓w_getfield, ↓w_iaload, ↓w_iastore, ↓w_goto, ↓w_if_icmp_ge, ↓w_return, stw_0, stw_i, stw_l, stw_r, ofK0, ofK1, ofK2, lst1, lst2, lkill, kont_none, kont_some, Int.reduceToNat, List.length_cons, List.length_nil, Nat.reduceAdd, Nat.reduceLeDiff, Nat.zero_le, true_and, and_true, if_true, if_false, ne_eq, Int.reduceEq, Int.reduceNeg, not_false_eq_true, not_true_eq_false, ↓reduceIte, Int.reduceLT, Int.reduceLE, and_self, or_true, true_or, or_false, false_or, false_and, and_false, ah_t_w, ah_m_w, ah_n_w, lst1_0, List.tail_cons, w32_i, mt_1036a hM', mt_1083a hM', mt_1083b hM', mf_62 hM', mt_1084a hM', mt_1084b hM', mf_63 hM', hlt]
    exact hQ _ hO (fun i a b => hi i a (by omega))
  | succ j ih =>
    intro k h' h0 h1 hO hi
    have hM' : MI h' := MI_off hM hO (fun r i w => by unfold fre; omega)
    have hlt : k < 24 := by omega
    rw [q_329_7]
    simp (disch := omega) only [b_329_7, ↓w_bipush, ↓w_aload_n_0, ↓w_iload_n_1, ↓w_iinc_1, ↓w_getfield, ↓w_iaload, ↓w_iastore, ↓w_goto, ↓w_if_icmp_ge, stw_0, stw_i, stw_l, stw_r, ofK0, ofK1, ofK2, lst1, lst2, lkill, kont_none, kont_some, Int.reduceToNat, List.length_cons, List.length_nil, Nat.reduceAdd, Nat.reduceLeDiff, Nat.zero_le, true_and, and_true, if_true, if_false, ne_eq, Int.reduceEq, Int.reduceNeg, not_false_eq_true, not_true_eq_false, ↓reduceIte, Int.reduceLT, Int.reduceLE, and_self, or_true, true_or, or_false, false_or, false_and, and_false, ah_t_w, ah_m_w, ah_n_w, lst1_0, List.tail_cons, w32_i, mt_1036a hM', mt_1083a hM', mt_1083b hM', mf_62 hM', mt_1084a hM', mt_1084b hM', mf_63 hM', hlt]
    refine ⟨by omega, by omega, ih (k + 1) _ (by omega) (by omega) (Off_w hO rfl) (fun i a b => ?_)⟩
    rw [ah_m_w, hO.2 1083 k (by omega)]
    split
    · rename_i e; rw [e.2]
    · exact hi i a (by omega)
theorem c_329 (hM : MI h) (hQ : ∀ h', Off (fun r i => r = 1084 ∨ (r = 1036 ∧ i = 75)) h h' → (∀ i, 0 ≤ i → i < 24 → ah_m h' 1084 i = ah_m h 1083 i) → ah_m h' 1036 75 = 1 → Q (.inl none) h') : wpC (d + 1) 329 [.inr (.inr 1036)] h Q := by
  rw [wpC_B]; refine ⟨⟨Nat.zero_lt_succ _, Nat.le_of_ble_eq_true rfl⟩, ?_⟩; simp only [lent]
  have hM1 : MI (ah_w h 1036 75 1) := MI_w hM (by unfold fre; omega)
  simp (disch := omega) only [q_329_0, b_329_0, ↓w_iconst, ↓w_aload_n_0, ↓w_istore_n_1, ↓w_putfield_3, ↓w_nop, stw_0, stw_i, stw_l, stw_r, ofK0, ofK1, ofK2, lst1, lst2, lkill, kont_none, kont_some, Int.reduceToNat, List.length_cons, List.length_nil, Nat.reduceAdd, Nat.reduceLeDiff, Nat.zero_le, true_and, and_true, if_true, if_false, ne_eq, Int.reduceEq, Int.reduceNeg, not_false_eq_true, not_true_eq_false, ↓reduceIte, Int.reduceLT, Int.reduceLE, and_self, or_true, true_or, or_false, false_or, false_and, and_false, ah_t_w, ah_m_w, ah_n_w, lst1_0, List.tail_cons, w32_i, mt_1036a hM]
  refine l_329 hM1 (fun h' hO hi => ?_) 24 0 _ (by omega) (by omega) Off_rfl (fun i a b => by omega)
  refine hQ h' ?_ ?_ ?_
  · exact Off_tr (Off_w Off_rfl (by omega)) (Off_mono (fun r i w => Or.inl w) hO)
  · intro i a b; rw [hi i a b, ah_m_w, if_neg (by omega)]
  · rw [hO.2 _ _ (by omega), ah_m_w, if_pos ⟨rfl, rfl⟩]
theorem l_342 (hM : MI h) (hQ : ∀ h', Off (fun r i => r = 1083) h h' → (∀ i, ah_m h' 1083 i = if 0 ≤ i ∧ i < 24 then ah_m h 1084 i else ah_m h 1083 i) → Q (.inl none) h') : ∀ (j : Nat) (k : Int) h', 0 ≤ k → k + j = 24 → Off (fun r i => r = 1083) h h' → (∀ i, ah_m h' 1083 i = if 0 ≤ i ∧ i < k then ah_m h 1084 i else ah_m h 1083 i) → wpB d 342 2 [some (.inr (.inr 1036)), some (.inl k)] [] h' Q := by
  intro j
  induction j with
  | zero =>
    intro k h' h0 h1 hO hi
    have hM' : MI h' := MI_off hM hO (fun r i w => by unfold fre; omega)
    have hlt : ¬ k < 24 := by omega
    have e : k = 24 := by omega
    simp (disch := omega) only [q_342_2, b_342_2, q_342_26, b_342_26, ↓w_bipush, ↓w_aload_n_0, ↓w_iload_n_1, ↓w_iinc_1, ↓w_getfield, ↓w_iaload, ↓w_iastore, ↓w_goto, ↓w_if_icmp_ge, ↓w_return, stw_0, stw_i, stw_l, stw_r, ofK0, ofK1, ofK2, lst1, lst2, lkill, kont_none, kont_some, Int.reduceToNat, List.length_cons, List.length_nil, Nat.reduceAdd, Nat.reduceLeDiff, Nat.zero_le, true_and, and_true, if_true, if_false, ne_eq, Int.reduceEq, Int.reduceNeg, not_false_eq_true, not_true_eq_false, ↓reduceIte, Int.reduceLT, Int.reduceLE, and_self, or_true, true_or, or_false, false_or, false_and, and_false, ah_t_w, ah_m_w, ah_n_w, lst1_0, List.tail_cons, w32_i, mt_1036a hM', mt_1083a hM', mt_1083b hM', mf_62 hM', mt_1084a hM', mt_1084b hM', mf_63 hM', hlt]
    exact hQ _ hO (e ▸ hi)
  | succ j ih =>
    intro k h' h0 h1 hO hi
    have hM' : MI h' := MI_off hM hO (fun r i w => by unfold fre; omega)
    have hlt : k < 24 := by omega
    rw [q_342_2]
    simp (disch := omega) only [b_342_2, ↓w_bipush, ↓w_aload_n_0, ↓w_iload_n_1, ↓w_iinc_1, ↓w_getfield, ↓w_iaload, ↓w_iastore, ↓w_goto, ↓w_if_icmp_ge, stw_0, stw_i, stw_l, stw_r, ofK0, ofK1, ofK2, lst1, lst2, lkill, kont_none, kont_some, Int.reduceToNat, List.length_cons, List.length_nil, Nat.reduceAdd, Nat.reduceLeDiff, Nat.zero_le, true_and, and_true, if_true, if_false, ne_eq, Int.reduceEq, Int.reduceNeg, not_false_eq_true, not_true_eq_false, ↓reduceIte, Int.reduceLT, Int.reduceLE, and_self, or_true, true_or, or_false, false_or, false_and, and_false, ah_t_w, ah_m_w, ah_n_w, lst1_0, List.tail_cons, w32_i, mt_1036a hM', mt_1083a hM', mt_1083b hM', mf_62 hM', mt_1084a hM', mt_1084b hM', mf_63 hM', hlt]
    refine ⟨by omega, by omega, ih (k + 1) _ (by omega) (by omega) (Off_w hO rfl) (fun i => ?_)⟩
    rw [ah_m_w, hO.2 1084 k (by omega), hi i]
    by_cases e : i = k
    · rw [if_pos ⟨rfl, e⟩, if_pos (by omega), e]
    · rw [if_neg (fun q => e q.2)]
      by_cases e2 : 0 ≤ i ∧ i < k
      · rw [if_pos e2, if_pos (by omega)]
      · rw [if_neg e2, if_neg (by omega)]
theorem c_342 (hM : MI h) (hQ : ∀ h', Off (fun r i => r = 1083) h h' → (∀ i, ah_m h' 1083 i = if 0 ≤ i ∧ i < 24 then ah_m h 1084 i else ah_m h 1083 i) → Q (.inl none) h') : wpC (d + 1) 342 [.inr (.inr 1036)] h Q := by
  rw [wpC_B]; refine ⟨⟨Nat.zero_lt_succ _, Nat.le_of_ble_eq_true rfl⟩, ?_⟩; simp only [lent]
  simp (disch := omega) only [q_342_0, b_342_0, ↓w_iconst, ↓w_istore_n_1, ↓w_nop, stw_0, stw_i, stw_l, stw_r, ofK0, ofK1, ofK2, lst1, lst2, lkill, kont_none, kont_some, Int.reduceToNat, List.length_cons, List.length_nil, Nat.reduceAdd, Nat.reduceLeDiff, Nat.zero_le, true_and, and_true, if_true, if_false, ne_eq, Int.reduceEq, Int.reduceNeg, not_false_eq_true, not_true_eq_false, ↓reduceIte, Int.reduceLT, Int.reduceLE, and_self, or_true, true_or, or_false, false_or, false_and, and_false, ah_t_w, ah_m_w, ah_n_w, lst1_0, List.tail_cons, w32_i, mt_1036a hM]
  exact l_342 hM hQ 24 0 _ (by omega) (by omega) Off_rfl (fun i => by rw [if_neg (by omega)])
theorem c_341 (hM : MI h) (hQ : ∀ h', Off (fun r i => r = 1083 ∨ (r = 1036 ∧ i = 75)) h h' → (∀ i, ah_m h' 1083 i = if 0 ≤ i ∧ i < 24 then ah_m h 1084 i else ah_m h 1083 i) → ah_m h' 1036 75 = 0 → Q (.inl none) h') : wpC (d + 2) 341 [.inr (.inr 1036)] h Q := by
  rw [wpC_B]; refine ⟨⟨Nat.zero_lt_succ _, Nat.le_of_ble_eq_true rfl⟩, ?_⟩; simp only [lent]
  simp (disch := omega) only [q_341_0, b_341_0, ↓w_iconst, ↓w_aload_n_0, ↓w_putfield_3, ↓w_return, ↓w_invokevirtual_0, stw_0, stw_i, stw_l, stw_r, ofK0, ofK1, ofK2, lst1, lst2, lkill, kont_none, kont_some, Int.reduceToNat, List.length_cons, List.length_nil, Nat.reduceAdd, Nat.reduceLeDiff, Nat.zero_le, true_and, and_true, if_true, if_false, ne_eq, Int.reduceEq, Int.reduceNeg, not_false_eq_true, not_true_eq_false, ↓reduceIte, Int.reduceLT, Int.reduceLE, and_self, or_true, true_or, or_false, false_or, false_and, and_false, ah_t_w, ah_m_w, ah_n_w, lst1_0, List.tail_cons, w32_i, mt_1036a hM]
  refine c_342 hM (fun h' hO hi => ?_)
  have hM' : MI h' := MI_off hM hO (fun r i w => by unfold fre; omega)
  simp (disch := omega) only [b_341_0, ↓w_iconst, ↓w_aload_n_0, ↓w_putfield_3, ↓w_return, ↓w_invokevirtual_0, stw_0, stw_i, stw_l, stw_r, ofK0, ofK1, ofK2, lst1, lst2, lkill, kont_none, kont_some, Int.reduceToNat, List.length_cons, List.length_nil, Nat.reduceAdd, Nat.reduceLeDiff, Nat.zero_le, true_and, and_true, if_true, if_false, ne_eq, Int.reduceEq, Int.reduceNeg, not_false_eq_true, not_true_eq_false, ↓reduceIte, Int.reduceLT, Int.reduceLE, and_self, or_true, true_or, or_false, false_or, false_and, and_false, ah_t_w, ah_m_w, ah_n_w, lst1_0, List.tail_cons, w32_i, mt_1036a hM', or_true]
  refine hQ _ (Off_w (Off_mono (fun r i w => Or.inl w) hO) (by omega)) (fun i => ?_) ?_
  · rw [ah_m_w, if_neg (by omega), hi i]
  · rw [ah_m_w, if_pos ⟨rfl, rfl⟩]
end M12
