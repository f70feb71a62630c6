/-! ===== X's reader: words ===== -/
def WN (_r _i : Int) : Prop := False
def zsub (t : Int → Int) : Int → Nat → List Int
  | _, 0 => []
  | k, j + 1 => t k :: zsub t (k + 1) j
section B3
variable {W W' : Int → Int → Prop} {d : Nat} {h h' h1 h2 h0 : AH} {Q : QQ} {x y z m k s a b c v n p r o i f N lo hi A B : Int} {S T T' : Int → Int → Int} {t nw nw' pt of tp : Int → Int} {tl : ALoc} {w u l : List Int}
set_option maxHeartbeats 4000000
theorem Ext_tr' (a : Ext W h h1) (b : Ext W' h1 h2) (hW : ∀ r i, W' r i → W r i ∨ ah_n h ≤ r) : Ext W h h2 := by
  obtain ⟨a1, a2, a3⟩ := a
  obtain ⟨b1, b2, b3⟩ := b
  refine ⟨⟨by omega, by omega⟩, fun r q => ?_, fun r i q w => ?_⟩
  · rw [b2 r (by omega), a2 r (by omega)]
  · rw [b3 r i (by omega) (fun u => (hW r i u).elim w (fun z => by omega)), a3 r i q w]
theorem zsub_len : ∀ (j : Nat) (k : Int), (zsub t k j).length = j := by
  intro j
  induction j with
  | zero => intro k; rfl
  | succ j ih => intro k; simp [zsub, ih]
theorem zsub_get : ∀ (j : Nat) (k : Int) (i : Nat), i < j → (zsub t k j).getD i 0 = t (k + i) := by
  intro j
  induction j with
  | zero => intro k i q; omega
  | succ j ih =>
    intro k i q
    cases i with
    | zero => simp [zsub]
    | succ i =>
      simp only [zsub, List.getD_cons_succ]
      rw [ih (k + 1) i (by omega)]
      congr 1; omega
theorem l_65 (tA : (ah_t h A).1 = -3) (tB : ah_t h B = (-2, (w.length : Int))) (hAB : A ≠ B) (B0 : 0 < B) (lA : (w.length : Int) ≤ (ah_t h A).2) (hw : ∀ i : Nat, i < w.length → ah_m h A i = w.getD i 0 ∧ 0 ≤ w.getD i 0 ∧ w.getD i 0 < 128) (hl : w.length ≤ 2000) (hQ : ∀ h', Off (fun r i => r = B) h h' → (∀ i : Nat, i < w.length → ah_m h' B i = w.getD i 0) → Q (.inl (some (.inl w.length))) h') :
    ∀ (j : Nat) (i : Nat) tl h', i + j = w.length → Off (fun r i => r = B) h h' → (∀ u : Nat, u < i → ah_m h' B u = w.getD u 0) → wpB d 65 3 (some (.inr (.inr A)) :: some (.inl i) :: some (.inr (.inr B)) :: some (.inl i) :: some (.inl w.length) :: some (.inl i) :: tl) [] h' Q := by
  intro j
  induction j with
  | zero =>
    intro i tl h' i1 hO hu
    have hlt : ¬ (i : Int) < w.length := by omega
    simp (disch := omega) only [q_65_3, b_65_3, q_65_44, b_65_44, ↓w_sipush, ↓w_aload_n_0, ↓w_iload_n_1, ↓w_iload_4, ↓w_iload_5, ↓w_iload_6, ↓w_istore, ↓w_caload, ↓w_if_icmp_ge, ↓w_if_icmp_le, ↓w_ireturn0, stw_0, stw_i, stw_l, stw_r, ofK0, ofK1, ofK2, lst1, lst2, lkill, kont_none, kont_some, Int.reduceToNat, List.length_cons, List.length_nil, Nat.reduceAdd, Nat.reduceLeDiff, Nat.zero_le, true_and, and_true, if_true, if_false, ne_eq, Int.reduceEq, Int.reduceNeg, not_false_eq_true, not_true_eq_false, ↓reduceIte, Int.reduceLT, Int.reduceLE, and_self, or_true, true_or, or_false, false_or, false_and, and_false, ah_t_w, ah_m_w, ah_n_w, lst1_0, List.tail_cons, w32_i, zbd, lst2_0, hlt]
    exact hQ h' hO (fun u q => hu u (by omega))
  | succ j ih =>
    intro i tl h' i1 hO hu
    have hlt : (i : Int) < w.length := by omega
    have tA' : (ah_t h' A).1 = -3 := by rw [Off_t hO]; exact tA
    have lA' : (i : Int) < (ah_t h' A).2 := by rw [Off_t hO]; omega
    have tB' : (ah_t h' B).1 = -2 := by rw [Off_t hO, tB]
    have lB' : (ah_t h' B).2 = w.length := by rw [Off_t hO, tB]
    have hi := hw i (by omega)
    have eA : ah_m h' A i = w.getD i 0 := by rw [hO.2 _ _ hAB]; exact hi.1
    have i0 : 0 ≤ (i : Int) := by omega
    have g : ¬ 255 < w.getD i 0 := by omega
    have e8 : w8 (w.getD i 0) = w.getD i 0 := by unfold w8; omega
    rw [q_65_3]
    simp (disch := omega) only [b_65_3, q_65_26, b_65_26, ↓w_sipush, ↓w_aload_n_0, ↓w_iload_n_1, ↓w_iinc_1, ↓w_aload_n_2, ↓w_iload_n_3, ↓w_iinc_3, ↓w_iload_4, ↓w_iload_5, ↓w_iinc_5, ↓w_iload_6, ↓w_istore, ↓w_i2b, ↓w_caload, ↓w_bastore, ↓w_goto, ↓w_if_icmp_ge, ↓w_if_icmp_le, ↓w_ireturn0, stw_0, stw_i, stw_l, stw_r, ofK0, ofK1, ofK2, lst1, lst2, lkill, kont_none, kont_some, Int.reduceToNat, List.length_cons, List.length_nil, Nat.reduceAdd, Nat.reduceLeDiff, Nat.zero_le, true_and, and_true, if_true, if_false, ne_eq, Int.reduceEq, Int.reduceNeg, not_false_eq_true, not_true_eq_false, ↓reduceIte, Int.reduceLT, Int.reduceLE, and_self, or_true, true_or, or_false, false_or, false_and, and_false, ah_t_w, ah_m_w, ah_n_w, lst1_0, List.tail_cons, w32_i, zbd, lst2_0, hlt, tA', lA', tB', lB', eA, i0, g, B0, e8]
    have := ih (i + 1) (some (.inl (w.getD i 0)) :: tl.tail) (ah_w h' B i (w.getD i 0)) (by omega) (Off_w hO rfl) (fun u q => ?_)
    · rw [show ((i + 1 : Nat) : Int) = (i : Int) + 1 by omega] at this
      exact this
    · rw [ah_m_w]
      by_cases e : u = i
      · rw [if_pos ⟨rfl, by omega⟩, e]
      · rw [if_neg (by omega)]; exact hu u (by omega)
theorem c_65 (tA : (ah_t h A).1 = -3) (tB : ah_t h B = (-2, (w.length : Int))) (hAB : A ≠ B) (B0 : 0 < B) (lA : (w.length : Int) ≤ (ah_t h A).2) (hw : ∀ i : Nat, i < w.length → ah_m h A i = w.getD i 0 ∧ 0 ≤ w.getD i 0 ∧ w.getD i 0 < 128) (hl : w.length ≤ 2000) (hQ : ∀ h', Off (fun r i => r = B) h h' → (∀ i : Nat, i < w.length → ah_m h' B i = w.getD i 0) → Q (.inl (some (.inl w.length))) h') : wpC (d + 1) 65 [.inr (.inr A), .inl 0, .inr (.inr B), .inl 0, .inl w.length] h Q := by
  rw [wpC_B]; refine ⟨⟨Nat.zero_lt_succ _, Nat.le_of_ble_eq_true rfl⟩, ?_⟩; simp only [lent]
  simp (disch := omega) only [q_65_0, b_65_0, ↓w_iconst, ↓w_istore, ↓w_nop, stw_0, stw_i, stw_l, stw_r, ofK0, ofK1, ofK2, lst1, lst2, lkill, kont_none, kont_some, Int.reduceToNat, List.length_cons, List.length_nil, Nat.reduceAdd, Nat.reduceLeDiff, Nat.zero_le, true_and, and_true, if_true, if_false, ne_eq, Int.reduceEq, Int.reduceNeg, not_false_eq_true, not_true_eq_false, ↓reduceIte, Int.reduceLT, Int.reduceLE, and_self, or_true, true_or, or_false, false_or, false_and, and_false, ah_t_w, ah_m_w, ah_n_w, lst1_0, List.tail_cons, w32_i, zbd, lst2_0]
  exact l_65 tA tB hAB B0 lA hw hl hQ w.length 0 _ h (by omega) Off_rfl (fun u q => by omega)
theorem iush_0 : iushr_ 0 31 = 0 := by decide
theorem c_74 (tB : ah_t h B = (-2, n)) (hn : 0 ≤ n ∧ n ≤ 2000) : wpC (d + 1) 74 [.inr (.inr B), .inl n] h Q ↔ Q (.inl (some (.inl 0))) h := by
  have t1 : (ah_t h B).1 = -2 := by rw [tB]
  have t2 : (ah_t h B).2 = n := by rw [tB]
  have e : n - n = 0 := by omega
  have e8 : w8 0 = 0 := by decide
  apply CT_iff; apply CT_of; rw [wpC_B]; refine ⟨⟨Nat.zero_lt_succ _, Nat.le_of_ble_eq_true rfl⟩, ?_⟩; simp only [lent]
  simp (disch := omega) only [q_74_0, b_74_0, ↓w_bipush, ↓w_aload_n_0, ↓w_iload_n_1, ↓w_isub, ↓w_iushr, ↓w_i2b, ↓w_arraylength, ↓w_ireturn3, stw_0, stw_i, stw_l, stw_r, ofK0, ofK1, ofK2, lst1, lst2, lkill, kont_none, kont_some, Int.reduceToNat, List.length_cons, List.length_nil, Nat.reduceAdd, Nat.reduceLeDiff, Nat.zero_le, true_and, and_true, if_true, if_false, ne_eq, Int.reduceEq, Int.reduceNeg, not_false_eq_true, not_true_eq_false, ↓reduceIte, Int.reduceLT, Int.reduceLE, and_self, or_true, true_or, or_false, false_or, false_and, and_false, ah_t_w, ah_m_w, ah_n_w, lst1_0, List.tail_cons, w32_i, zbd, lst2_0, t1, t2, e, iush_0, e8]
theorem c_64 (hn : 1 ≤ ah_n h) (tA : ah_t h A = (-3, (w.length : Int))) (A1 : A < ah_n h) (hw : ∀ i : Nat, i < w.length → ah_m h A i = w.getD i 0 ∧ 0 ≤ w.getD i 0 ∧ w.getD i 0 < 128) (hl : w.length ≤ 2000)
    (hQ : ∀ h', Ext WN h h' → ah_n h' = ah_n h + 1 → ah_s h' = ah_s h + w.length → ah_t h' (ah_n h) = (-2, (w.length : Int)) → (∀ i : Nat, i < w.length → ah_m h' (ah_n h) i = w.getD i 0) → Q (.inl (some (.inr (.inr (ah_n h))))) h') : wpC (d + 2) 64 [.inr (.inr A), .inl 0, .inl w.length] h Q := by
  have b0 : 0 ≤ (w.length : Int) := by omega
  have b1 : (w.length : Int) ≤ 100000 := by omega
  rw [wpC_B]; refine ⟨⟨Nat.zero_lt_succ _, Nat.le_of_ble_eq_true rfl⟩, ?_⟩; simp only [lent]
  simp (disch := omega) only [q_64_0, b_64_0, ↓w_iconst, ↓w_sipush, ↓w_aload_n_0, ↓w_iload_n_1, ↓w_iload_n_2, ↓w_aload_n_3, ↓w_iload_4, ↓w_aload_5, ↓w_istore, ↓w_astore, ↓w_astore_n_3, ↓w_newarray, ↓w_nop, ↓w_if_icmp_eq, ↓w_if_icmp_gt, ↓w_invokestatic_2, ↓w_invokestatic_3, ↓w_invokestatic_5, stw_0, stw_i, stw_l, stw_r, ofK0, ofK1, ofK2, lst1, lst2, lkill, kont_none, kont_some, Int.reduceToNat, List.length_cons, List.length_nil, Nat.reduceAdd, Nat.reduceLeDiff, Nat.zero_le, true_and, and_true, if_true, if_false, ne_eq, Int.reduceEq, Int.reduceNeg, not_false_eq_true, not_true_eq_false, ↓reduceIte, Int.reduceLT, Int.reduceLE, and_self, or_true, true_or, or_false, false_or, false_and, and_false, ah_t_w, ah_m_w, ah_n_w, lst1_0, List.tail_cons, w32_i, zbd, lst2_0, b0, b1]
  simp only [arrT]
  generalize hP : ah_n h = P at *
  have tP : ah_t (ah_new h (-2, (w.length : Int)) (w.length : Int)) P = (-2, (w.length : Int)) := by rw [ah_t_new, hP, if_pos rfl]
  have tA1 : ah_t (ah_new h (-2, (w.length : Int)) (w.length : Int)) A = (-3, (w.length : Int)) := by rw [ah_t_new, hP, if_neg (by omega)]; exact tA
  have mA1 : ∀ i, ah_m (ah_new h (-2, (w.length : Int)) (w.length : Int)) A i = ah_m h A i := fun i => by rw [ah_m_new, hP, if_neg (by omega)]
  have hE1 : Ext WN h (ah_new h (-2, (w.length : Int)) (w.length : Int)) := Ext_new Ext_rfl (by omega)
  have n1' : ah_n (ah_new h (-2, (w.length : Int)) (w.length : Int)) = P + 1 := by rw [ah_n_new, hP]
  have s1' : ah_s (ah_new h (-2, (w.length : Int)) (w.length : Int)) = ah_s h + w.length := ah_s_new
  generalize hg1 : ah_new h (-2, (w.length : Int)) (w.length : Int) = g1 at *
  refine c_65 (d := d) (by rw [tA1]) tP (by omega) (by omega) (by rw [tA1]; exact Int.le_refl _) (fun i q => by rw [mA1]; exact hw i q) hl (fun h2 hO2 e2 => ?_)
  simp (disch := omega) only [b_64_0, q_64_57, b_64_57, ↓w_iconst, ↓w_sipush, ↓w_aload_n_0, ↓w_iload_n_1, ↓w_iload_n_2, ↓w_aload_n_3, ↓w_iload_4, ↓w_aload_5, ↓w_istore, ↓w_astore, ↓w_astore_n_3, ↓w_newarray, ↓w_nop, ↓w_if_icmp_eq, ↓w_if_icmp_gt, ↓w_areturn, ↓w_invokestatic_2, ↓w_invokestatic_3, ↓w_invokestatic_5, stw_0, stw_i, stw_l, stw_r, ofK0, ofK1, ofK2, lst1, lst2, lkill, kont_none, kont_some, Int.reduceToNat, List.length_cons, List.length_nil, Nat.reduceAdd, Nat.reduceLeDiff, Nat.zero_le, true_and, and_true, if_true, if_false, ne_eq, Int.reduceEq, Int.reduceNeg, not_false_eq_true, not_true_eq_false, ↓reduceIte, Int.reduceLT, Int.reduceLE, and_self, or_true, true_or, or_false, false_or, false_and, and_false, ah_t_w, ah_m_w, ah_n_w, lst1_0, List.tail_cons, w32_i, zbd, lst2_0]
  exact hQ h2 (Ext_tr' hE1 (Ext_off hO2) (fun r i w => Or.inr (by omega))) (by rw [Off_n hO2]; exact n1') (by rw [Off_s hO2]; exact s1') (by rw [Off_t hO2]; exact tP) e2
/-- a text made of letters -/
theorem c_53 (hF : FRE h) (tA : ah_t h A = (-3, (w.length : Int))) (hw : ∀ i : Nat, i < w.length → ah_m h A i = w.getD i 0 ∧ 0 ≤ w.getD i 0 ∧ w.getD i 0 < 128) (h1 : 1 ≤ w.length) (hl : w.length ≤ 2000)
    (hQ : ∀ h', STR h' (ah_n h) w → Ext WN h h' → ah_n h' = ah_n h + 2 → ah_s h' = ah_s h + 4 + w.length → ah_m h' (ah_n h) 0 = ah_n h + 1 → ah_m h' (ah_n h) 2 = 0 → ah_m h' (ah_n h) 3 = 0 → Q (.inl (some (.inr (.inr (ah_n h))))) h') : wpC (d + 5) 53 [.inr (.inr A)] h Q := by
  have n1 := hF.1
  have A1 : A < ah_n h := FRE_lt hF (by rw [tA]; exact (by decide : (-3 : Int) ≠ 0))
  rw [wpC_B]; refine ⟨⟨Nat.zero_lt_succ _, Nat.le_of_ble_eq_true rfl⟩, ?_⟩; simp only [lent]
  simp (disch := omega) only [q_53_0, b_53_0, ↓w_aload_n_0, ↓w_dup_i, ↓w_dup_a, ↓w_new, ↓w_areturn, ↓w_invokespecial_1, stw_0, stw_i, stw_l, stw_r, ofK0, ofK1, ofK2, lst1, lst2, lkill, kont_none, kont_some, Int.reduceToNat, List.length_cons, List.length_nil, Nat.reduceAdd, Nat.reduceLeDiff, Nat.zero_le, true_and, and_true, if_true, if_false, ne_eq, Int.reduceEq, Int.reduceNeg, not_false_eq_true, not_true_eq_false, ↓reduceIte, Int.reduceLT, Int.reduceLE, and_self, or_true, true_or, or_false, false_or, false_and, and_false, ah_t_w, ah_m_w, ah_n_w, lst1_0, List.tail_cons, w32_i, zbd, lst2_0, ah_t_new]
  generalize hP : ah_n h = P at *
  have P0 : 0 < P := by omega
  have hE1 : Ext WN h (ah_new h (10, 0) ((4 : Nat) : Int)) := Ext_new Ext_rfl (by omega)
  have n1' : ah_n (ah_new h (10, 0) ((4 : Nat) : Int)) = P + 1 := by rw [ah_n_new, hP]
  have s1' : ah_s (ah_new h (10, 0) ((4 : Nat) : Int)) = ah_s h + 4 := by rw [ah_s_new]; rfl
  have tP : ah_t (ah_new h (10, 0) ((4 : Nat) : Int)) P = (10, 0) := by rw [ah_t_new, hP, if_pos rfl]
  have mP : ∀ i, ah_m (ah_new h (10, 0) ((4 : Nat) : Int)) P i = 0 := fun i => by rw [ah_m_new, hP, if_pos rfl]
  have tA1 : ah_t (ah_new h (10, 0) ((4 : Nat) : Int)) A = (-3, (w.length : Int)) := by rw [ah_t_new, hP, if_neg (by omega)]; exact tA
  have mA1 : ∀ i, ah_m (ah_new h (10, 0) ((4 : Nat) : Int)) A i = ah_m h A i := fun i => by rw [ah_m_new, hP, if_neg (by omega)]
  generalize hg1 : ah_new h (10, 0) ((4 : Nat) : Int) = g1 at *
  have tP1 : (ah_t g1 P).1 = 10 := by rw [tP]
  have tAa : (ah_t g1 A).1 = -3 := by rw [tA1]
  have tAb : (ah_t g1 A).2 = w.length := by rw [tA1]
  have l0 : ¬ (w.length : Int) = 0 := by omega
  rw [wpC_B]; refine ⟨⟨Nat.zero_lt_succ _, Nat.le_of_ble_eq_true rfl⟩, ?_⟩; simp only [lent]
  simp (disch := omega) only [q_54_0, b_54_0, ↓w_iconst, ↓w_aconst_null, ↓w_aload_n_0, ↓w_aload_n_1, ↓w_arraylength, ↓w_return, ↓w_invokespecial_4, stw_0, stw_i, stw_l, stw_r, ofK0, ofK1, ofK2, lst1, lst2, lkill, kont_none, kont_some, Int.reduceToNat, List.length_cons, List.length_nil, Nat.reduceAdd, Nat.reduceLeDiff, Nat.zero_le, true_and, and_true, if_true, if_false, ne_eq, Int.reduceEq, Int.reduceNeg, not_false_eq_true, not_true_eq_false, ↓reduceIte, Int.reduceLT, Int.reduceLE, and_self, or_true, true_or, or_false, false_or, false_and, and_false, ah_t_w, ah_m_w, ah_n_w, lst1_0, List.tail_cons, w32_i, zbd, lst2_0, tAa, tAb, tP1]
  rw [wpC_B]; refine ⟨⟨Nat.zero_lt_succ _, Nat.le_of_ble_eq_true rfl⟩, ?_⟩; simp only [lent]
  simp (disch := omega) only [q_55_0, b_55_0, q_55_27, b_55_27, ↓w_ldc, ↓w_getstatic, ↓w_aload_n_0, ↓w_aload_n_1, ↓w_iload_n_2, ↓w_iload_n_3, ↓w_aload_5, ↓w_astore, ↓w_getfield, ↓w_putfield_2, ↓w_putfield_4, ↓w_ifCond_eq, ↓w_ifCond_ne, ↓w_return, ↓w_invokestatic_2, ↓w_invokestatic_3, ↓w_objinit, stw_0, stw_i, stw_l, stw_r, ofK0, ofK1, ofK2, lst1, lst2, lkill, kont_none, kont_some, Int.reduceToNat, List.length_cons, List.length_nil, Nat.reduceAdd, Nat.reduceLeDiff, Nat.zero_le, true_and, and_true, if_true, if_false, ne_eq, Int.reduceEq, Int.reduceNeg, not_false_eq_true, not_true_eq_false, ↓reduceIte, Int.reduceLT, Int.reduceLE, and_self, or_true, true_or, or_false, false_or, false_and, and_false, ah_t_w, ah_m_w, ah_n_w, lst1_0, List.tail_cons, w32_i, zbd, lst2_0, l0, P0]
  refine c_64 (d := d) (by omega) tA1 (by omega) (fun i q => by rw [mA1]; exact hw i q) hl (fun h2 hE2 n2 s2 tB eB => ?_)
  rw [n1'] at tB eB ⊢
  have tP2 : ah_t h2 P = (10, 0) := by rw [hE2.2.1 _ (Or.inl (by omega))]; exact tP
  have mP2 : ∀ i, ah_m h2 P i = 0 := fun i => by rw [hE2.2.2 _ _ (by omega) (fun w => w)]; exact mP i
  have tP2a : (ah_t h2 P).1 = 10 := by rw [tP2]
  simp (disch := omega) only [b_55_27, b_54_0, b_53_0, ↓w_iconst, ↓w_getstatic, ↓w_aconst_null, ↓w_aload_n_0, ↓w_aload_n_1, ↓w_iload_n_2, ↓w_iload_n_3, ↓w_aload_5, ↓w_astore, ↓w_dup_i, ↓w_dup_a, ↓w_putfield_2, ↓w_putfield_4, ↓w_new, ↓w_arraylength, ↓w_ifCond_eq, ↓w_return, ↓w_areturn, ↓w_invokespecial_1, ↓w_invokestatic_2, ↓w_invokestatic_3, ↓w_invokespecial_4, stw_0, stw_i, stw_l, stw_r, ofK0, ofK1, ofK2, lst1, lst2, lkill, kont_none, kont_some, Int.reduceToNat, List.length_cons, List.length_nil, Nat.reduceAdd, Nat.reduceLeDiff, Nat.zero_le, true_and, and_true, if_true, if_false, ne_eq, Int.reduceEq, Int.reduceNeg, not_false_eq_true, not_true_eq_false, ↓reduceIte, Int.reduceLT, Int.reduceLE, and_self, or_true, true_or, or_false, false_or, false_and, and_false, ah_t_w, ah_m_w, ah_n_w, lst1_0, List.tail_cons, w32_i, zbd, lst2_0, c_74 tB (show 0 ≤ (w.length : Int) ∧ (w.length : Int) ≤ 2000 by omega), tP2a, P0]
  generalize hg3 : ah_w (ah_w h2 P 1 0) P 0 (P + 1) = g3
  have hO3 : Off (fun r i => r = P) h2 g3 := by rw [← hg3]; exact Off_w (Off_w Off_rfl rfl) rfl
  have e0 : ah_m g3 P 0 = P + 1 := by rw [← hg3, ah_m_w, if_pos ⟨rfl, rfl⟩]
  have e1 : ah_m g3 P 1 = 0 := by rw [← hg3, ah_m_w, if_neg (by omega), ah_m_w, if_pos ⟨rfl, rfl⟩]
  refine hQ g3 ⟨by rw [Off_t hO3]; exact tP2a, e1, by rw [e0, Off_t hO3]; exact tB, fun i q => by rw [e0, hO3.2 _ _ (by omega)]; exact eB i q⟩ (Ext_tr' (Ext_tr hE1 hE2) (Ext_off hO3) (fun r i w => Or.inr (by omega))) (by rw [Off_n hO3, n2, n1']; omega) (by rw [Off_s hO3, s2, s1']) e0 ?_ ?_
  · rw [← hg3, ah_m_w, if_neg (by omega), ah_m_w, if_neg (by omega)]; exact mP2 2
  · rw [← hg3, ah_m_w, if_neg (by omega), ah_m_w, if_neg (by omega)]; exact mP2 3
end B3
